/-! ===== SOUNDNESS: handlers; the whole machine ===== -/
theorem cov_nil {z : ExceptionTableEntry} : ∀ y ∈ ([] : List ExceptionTableEntry), False := fun _ h => nomatch h
section
variable {γ : AG} {q : AMi}
theorem out_of {x : MC} {k0 d pc E : Nat} (C : aCx γ x q (d + 1)) {h : AH} {ls : ALs} {H : Heap} {locs : List Loc} {cells slots : Nat} {A : Array Slot} (I : aIn γ x k0 q.2.2.1 h ls H locs cells slots A) {rest : List Value} {q9 : Nat} {ce : Cell} (hce : H[q9]? = some ce) (hvm : ce.vm = .none) (hcl : (xs x).vm.findClass (eName E) = some ce.cls)
    (hpass : ∀ z ∈ x.2.2.2.2.2.2.2.2.2.exceptionTable.toList, covers z pc = false ∨ (z.catchType ≠ 0 ∧ ∃ nm : String, (Cond.classLink q.1.cls z.catchType nm).before x.2.2.2.2.2.2.1 (xs x) = true ∧ va_Nc (eName E) nm (xs x))) : aVW x H locs cells slots (aQ γ x k0 (.inr E) h) (F0 (xm x) pc A rest) q9 := by
  have e1 := I.1.1
  have e2 := I.2.2.1
  have e3 := I.2.2.2.1
  exact vx_outP C.2.2.2.1 C.2.2.2.2.2.2.1 hpass hce hvm hcl (fun t ht hal => ⟨⟨E, rfl, rfl, by rw [ht]; exact I.1.moved hal⟩, I.2.1.F ht⟩) I.2.1.2.2 (by omega) (by omega)
/-- no table: what is thrown goes out -/
theorem hd_none (hq : q.2.2.2.2 = none) (pc E : Nat) : HdOK γ q (fun _ _ => some none) pc E := by
  intro x k0 d C htab ls h
  dsimp only
  intro b1 b2 H locs cells slots A rest q9 ce I hce hvm hcl
  refine out_of C I hce hvm hcl (fun z hz => ?_)
  rw [htab, hq] at hz
  cases hz
theorem aLs_clr {nL : Nat} {A A' : Array Slot} {ls : ALs} {i : Nat} {v : Value} (h : aLs nL A ls) (hA : lv_has A' nL ((i, v) :: (aPr ls).filter (fun z => !(z.1 == i) && !(z.1 + 1 == i && z.2.category == 2)))) : aLs nL A' (ls.set i none) := by
  refine ⟨by rw [List.length_set]; exact h.1, hA.1, hA.2.1, fun j w hj => ?_⟩
  rw [List.getElem?_set] at hj
  split at hj
  · split at hj
    · cases hj
    · cases hj
  · next e =>
    have hc := (h.2.2.2 j w hj).2
    refine ⟨hA.2.2 (j, w) (List.mem_cons_of_mem _ (List.mem_filter.mpr ⟨aPr_mem.mpr hj, ?_⟩)), hc⟩
    have h1 : (j == i) = false := beq_eq_false_iff_ne.mpr (fun q => e q.symm)
    have h2 : (w.category == 2) = false := by rw [isC1_cat hc]; rfl
    simp [h1, h2]
/-- caught by the row z of the table, that stores what it caught into the local k; the rows ahead name other classes -/
theorem hd_catch {hd : AHd} {pc E nx k : Nat} {hh pre suf : List (Nat × Nat × Nat × Nat)} {z : Nat × Nat × Nat × Nat} {name : String} (hq : q.2.2.2.2 = some hh) (hhd : hd pc E = some (some (nx, k))) (hsp : hh = pre ++ z :: suf)
    (hpass : ∀ w ∈ pre, ∃ nm, Cond.classLink q.1.cls w.2.2.2 nm ∈ lw_all ∧ (eName E, nm) ∈ ncT ∧ w.2.2.2 ≠ 0) (hx : z.1 ≤ pc ∧ pc < z.2.1) (h0 : z.2.2.2 ≠ 0) (hl : Cond.classLink q.1.cls z.2.2.2 name ∈ lw_all) (hc : Cond.castable (eName E) name ∈ lw_tbl)
    (hst : (∃ k4 : Fin 4, (k4 : Nat) = k ∧ decode q.2.1 z.2.2.1 = .ok (.astore_n k4, 1) ∧ z.2.2.1 + 1 = nx) ∨ (decode q.2.1 z.2.2.1 = .ok (.astore k, 2) ∧ z.2.2.1 + 2 = nx)) (hk : k < q.2.2.1) : HdOK γ q hd pc E := by
  intro x k0 d C htab ls h
  rw [hhd]
  dsimp only
  intro Q K H locs cells slots A rest q9 ce I hce hvm hcl
  rw [hq] at htab
  refine vx_catch C.2.2.2.1 (tableOf pre) ⟨z.1, z.2.1, z.2.2.1, z.2.2.2⟩ (tableOf suf) (name := name) (by rw [htab, hsp]; simp [tableOf]) (fun w hw => ?_) ?_ h0 (C.2.2.2.2.1 _ hl) (va_Nw.use rfl (C.2.2.2.2.2.1.2.1 _ hc rfl)) hce hvm hcl ?_
  · obtain ⟨w0, hw0, rfl⟩ := List.mem_map.mp hw
    obtain ⟨nm, h1, h2, h3⟩ := hpass w0 hw0
    exact Or.inr ⟨h3, nm, C.2.2.2.2.1 _ h1, C.2.2.2.2.2.1.2.2.2.2.2.1 _ h2⟩
  · simp [covers, hx.1, hx.2]
  · rcases hst with ⟨k4, e4, hdg, hn⟩ | ⟨hdg, hn⟩
    · subst hn
      exact lv_astore_n C.1 C.2.1 hdg e4 (aLs_has I.2.2.2.2) hk rfl (fun A' hA => K H locs cells slots A' ⟨I.1, I.2.1, I.2.2.1, I.2.2.2.1, aLs_clr I.2.2.2.2 hA⟩)
    · subst hn
      exact lv_astore C.1 C.2.1 hdg (aLs_has I.2.2.2.2) hk rfl (fun A' hA => K H locs cells slots A' ⟨I.1, I.2.1, I.2.2.1, I.2.2.2.1, aLs_clr I.2.2.2.2 hA⟩)
/-- not covered: it goes out -/
theorem hd_out {hd : AHd} {pc E : Nat} {hh : List (Nat × Nat × Nat × Nat)} (hq : q.2.2.2.2 = some hh) (hhd : hd pc E = some none) (hno : ∀ z ∈ hh, ¬ (z.1 ≤ pc ∧ pc < z.2.1)) : HdOK γ q hd pc E := by
  intro x k0 d C htab ls h
  rw [hhd]
  dsimp only
  intro b1 b2 H locs cells slots A rest q9 ce I hce hvm hcl
  refine out_of C I hce hvm hcl (fun z hz => ?_)
  rw [htab, hq] at hz
  obtain ⟨w0, hw0, rfl⟩ := List.mem_map.mp hz
  refine Or.inl ?_
  have := hno w0 hw0
  simp only [covers]
  by_cases h1 : w0.1 ≤ pc
  · simp [h1]
    exact Nat.not_lt.mp (fun h2 => this ⟨h1, h2⟩)
  · simp [h1]
theorem hd_stuck {hd : AHd} {pc E : Nat} (hhd : hd pc E = none) : HdOK γ q hd pc E := by
  intro x k0 d C htab ls h
  rw [hhd]
  trivial
end
theorem lv_args_at : ∀ (vs : List Value) (b i : Nat) (v : Value), (∀ w ∈ vs, isC1 w = true) → vs[i]? = some v → (b + i, v) ∈ lv_args b vs
  | [], b, i, v, _, h => by simp at h
  | w :: vs, b, i, v, hc, h => by
    have hw := isC1_cat (hc w List.mem_cons_self)
    cases i with
    | zero =>
      simp at h
      subst h
      cases w <;> first | exact List.mem_cons_self | (simp [Value.category] at hw)
    | succ i =>
      have ih := lv_args_at vs (b + 1) i v (fun z hz => hc z (List.mem_cons_of_mem _ hz)) (by simpa using h)
      rw [show b + 1 + i = b + (i + 1) by omega] at ih
      cases w <;> first | exact List.mem_cons_of_mem _ ih | (simp [Value.category] at hw)
theorem lg_len : ∀ vs : List Value, (∀ w ∈ vs, isC1 w = true) → (lg_sl vs).length = vs.length
  | [], _ => rfl
  | w :: vs, hc => by
    have hw := isC1_cat (hc w List.mem_cons_self)
    have ih := lg_len vs (fun z hz => hc z (List.mem_cons_of_mem _ hz))
    cases w <;> first | exact absurd hw (show ¬ (2 : Nat) = 1 by decide) | (exact congrArg Nat.succ ih)
theorem aEnt_ls {nL : Nat} {as : List Value} {A : Array Slot} (hc : ∀ w ∈ as, isC1 w = true) (hl : as.length ≤ nL) (h : lv_has A nL (lv_args 0 as)) : aLs nL A (aEnt nL as) := by
  refine ⟨by unfold aEnt; rw [List.length_append, List.length_map, List.length_replicate]; omega, h.1, h.2.1, fun i v hi => ?_⟩
  unfold aEnt at hi
  by_cases hlt : i < as.length
  · rw [List.getElem?_append_left (by rw [List.length_map]; exact hlt), List.getElem?_map] at hi
    cases ha : as[i]? with
    | none => rw [ha] at hi; cases hi
    | some w =>
      rw [ha] at hi
      cases hi
      have := lv_args_at as 0 i v hc ha
      rw [Nat.zero_add] at this
      exact ⟨h.2.2 _ this, hc v (List.mem_of_getElem? ha)⟩
  · rw [List.getElem?_append_right (by rw [List.length_map]; omega)] at hi
    rw [List.getElem?_replicate] at hi
    split at hi
    · cases hi
    · cases hi
/-- a method of the tables is sound -/
def MthOK (γ : AG) (q : AMi) (a : AMth) : Prop := plainName q.1.cls = true ∧ a.2.2 = q.2.2.1 ∧ (∀ pc op, a.1 pc = some op → OpOK γ q pc op ∧ OpMono op) ∧ ∀ pc op E, a.1 pc = some op → HdOK γ q a.2.1 pc E
/-- a body, from its entry -/
theorem body_W {γ : AG} {q : AMi} {a : AMth} {l : Launch} {d : Nat} {env : AEnv} (hM : MthOK γ q a) (hl : l.stackTraces = false) (he : envOK γ l d env) (hm : envMono env) {as : List Value} {h : AH} {out : AOut} {h' : AH} (hc : ∀ w ∈ as, isC1 w = true) (hlen : as.length ≤ a.2.2)
    (hr : aR env a.1 a.2.1 (0, aEnt a.2.2 as, [], h) = some (out, h')) {ws : List Cond} (hws : ∀ w ∈ lw_all, w ∈ ws) {p : Program} {e : Env} {s s₁ : State} {m : MethodId} {args : Array Value} {below : List Frame} {meth : Method} {c : Code}
    (B : BodyLoose p l q.1 (headSpec ws (aRoom (d + 1) h h')) q.2.1 q.2.2.1 q.2.2.2.1 e s m args below meth c s₁) (hml : c.maxLocals = q.2.2.1) (htab : c.exceptionTable.toList = match q.2.2.2.2 with
    | none => []
    | some hh => tableOf hh) (hv : aPc γ as h args s) :
    W p l e (aRoom (d + 1) h h') s m args below meth c s.heap [] 0 0 (vx_MQ below (aQc γ out h') (aXc γ out h') args s (h'.2.1 - h.2.1) (h'.2.2.1 - h.2.2.1) (fun q => γ.2.2.1 ≤ q)) (entryFrame m args q.2.2.1) := by
  obtain ⟨ha, hT, hR⟩ := hv
  subst ha
  obtain ⟨f, hf⟩ := aR_some.mp hr
  have hpre := atoms_spec (ws := ws) B.pre
  have hle := arun_le hm (fun pc op z => (hM.2.2.1 pc op z).2) f _ _ hf
  have e1 : h.2.1 = s.heap.size := hR.1
  have C : aCx γ (p, l, e, aRoom (d + 1) h h', s, m, as.toArray, below, meth, c) q (d + 1) :=
    ⟨B.exec, B.bytes, hml, findClass_of_methodNamed B.named, fun w hw => hpre w (hws w hw), hT, B.notSynchronized, hl, Nat.le_refl _, Nat.le_refl _, hR.2.1, (name_of_methodNamed B.named B.method).1, B.returns⟩
  have key := arun_W C htab he hm hM.2.2.1 hM.2.2.2 f _ out h' hf (k0 := h.2.2.1) (by show h'.2.1 ≤ s.heap.size + (h'.2.1 - h.2.1); omega) (by show h'.2.2.1 ≤ h.2.2.1 + (h'.2.2.1 - h.2.2.1); omega)
  have hq : aQ γ (p, l, e, aRoom (d + 1) h h', s, m, as.toArray, below, meth, c) h.2.2.1 out h' = vx_MQ below (aQc γ out h') (aXc γ out h') as.toArray s (h'.2.1 - h.2.1) (h'.2.2.1 - h.2.2.1) (fun q => γ.2.2.1 ≤ q) := by
    unfold aQ
    rw [e1]
  rw [hq] at key
  have hL : q.2.2.1 = a.2.2 := hM.2.1.symm
  have hn : (lg_sl as).length ≤ q.2.2.1 := by rw [lg_len as hc, hL]; exact hlen
  have hent := lv_entry as hn
  rw [lg_entry_eq]
  exact key s.heap [] 0 0 _ ⟨hR, va_S.rf, Nat.zero_add _, Nat.zero_add _, by rw [← hL]; exact aEnt_ls hc (by rw [hL]; exact hlen) hent⟩
theorem exec_ok {γ : AG} {l : Launch} {T : Nat → AMth} (hl : l.stackTraces = false) (hT : ∀ y, (∀ pc, (T y).1 pc = none) ∨ MthOK γ (γ.2.2.2.2.1 y) (T y)) : ∀ d, envOK γ l d (exec T d) ∧ envMono (exec T d) := by
  intro d
  induction d with
  | zero =>
    refine ⟨?_, ?_⟩
    · intro y as h o h' hr; cases hr
    · intro y as h o h' hr; cases hr
  | succ d ih =>
    obtain ⟨he, hm⟩ := ih
    have inv : ∀ {y as h o h'}, exec T (d + 1) y as h = some (o, h') → (∀ w ∈ as, isC1 w = true) ∧ as.length ≤ (T y).2.2 ∧ aR (exec T d) (T y).1 (T y).2.1 (0, aEnt (T y).2.2 as, [], h) = some (o, h') ∧ MthOK γ (γ.2.2.2.2.1 y) (T y) := by
      intro y as h o h' hr
      obtain ⟨hb, hz⟩ := bif_inv hr
      obtain ⟨hb1, hb2⟩ := bsplit hb
      refine ⟨fun w hw => List.all_eq_true.mp hb1 w hw, Nat.le_of_ble_eq_true hb2, hz, ?_⟩
      rcases hT y with h0 | h0
      · obtain ⟨f, hf⟩ := aR_some.mp hz
        cases f with
        | zero => cases hf
        | succ f => rw [arun, h0] at hf; cases hf
      · exact h0
    refine ⟨fun y as h o h' hr => ?_, fun y as h o h' hr => ?_⟩
    · obtain ⟨hc, hlen, hz, hM⟩ := inv hr
      unfold aMet
      cases hhq : (γ.2.2.2.2.1 y).2.2.2.2 with
      | none =>
        have hk : kws (γ.2.2.2.2.1 y) = Cond.code (γ.2.2.2.2.1 y).1 (γ.2.2.2.2.1 y).2.1 (γ.2.2.2.2.1 y).2.2.1 (γ.2.2.2.2.1 y).2.2.2.1 :: lw_all := by unfold kws; rw [hhq]
        rw [hk]
        refine vx_ofW hM.1 rfl ?_
        intro p e s m args below meth c s₁ B hml ht hv
        exact body_W hM hl he hm hc hlen hz (fun w hw => List.mem_cons_of_mem _ hw) B hml (by rw [hhq]; exact List.eq_nil_iff_forall_not_mem.mpr (fun z hz => ht z hz)) hv
      | some hh =>
        have hk : kws (γ.2.2.2.2.1 y) = Cond.codeWith (γ.2.2.2.2.1 y).1 (γ.2.2.2.2.1 y).2.1 (γ.2.2.2.2.1 y).2.2.1 (γ.2.2.2.2.1 y).2.2.2.1 hh :: lw_all := by unfold kws; rw [hhq]
        rw [hk]
        refine vx_ofWH hM.1 rfl ?_
        intro p e s m args below meth c s₁ B hml hv
        have hw := atoms_spec (ws := Cond.codeWith (γ.2.2.2.2.1 y).1 (γ.2.2.2.2.1 y).2.1 (γ.2.2.2.2.1 y).2.2.1 (γ.2.2.2.2.1 y).2.2.2.1 hh :: lw_all) B.pre _ List.mem_cons_self
        exact body_W hM hl he hm hc hlen hz (fun w hw => List.mem_cons_of_mem _ hw) B hml (by rw [hhq]; exact vx_table (x := (γ.2.2.2.2.1 y).1) B hw) hv
    · obtain ⟨hc, hlen, hz, hM⟩ := inv hr
      obtain ⟨f, hf⟩ := aR_some.mp hz
      exact arun_le hm (fun pc op z => (hM.2.2.1 pc op z).2) f _ _ hf
