/-! ===== SOUNDNESS: exceptions as objects; casts; ends ===== -/
section
variable {p : Program} {l : Launch} {e : Env} {R : Room} {s : State} {m : MethodId} {args : Array Value} {below : List Frame} {meth : Method} {c : Code} {H : Heap} {locs : List Loc} {cells slots : Nat} {Q : State → Prop} {ls : Array Slot} {rest : List Value}
theorem am_make0 {cc : ByteArray} {pc : Nat} (hexec : p.tables.exec = Jvm.exec) (hb : c.code = cc) (hl : l.stackTraces = false) {own cls : String} {names : List String} {ik ic : Nat} {A : Nat → Prop} {cD : ClassId}
    (hown : s.vm.findClass own = some m.cls) (hcls : Bundle.fit cls = true) (hnames : ∀ n ∈ names, Bundle.fit n = true)
    (hk : (Cond.classLink own ik cls).before args s = true) (hini : (Cond.initialized cls).before args s = true) (hat : ∀ w ∈ vx_at0 own ic cls names, w.before args s = true)
    (hgood : ∀ w ∈ Cond.classLink own ik cls :: Cond.initialized cls :: vx_at0 own ic cls names, vx_ot w = true)
    (hU : vx_Zq Bundle.tN "UNASSIGNED_STACK" Bundle.steD A s s.heap) (hN : vx_Zq Bundle.tN "SUPPRESSED_SENTINEL" Bundle.listD A s s.heap) (hS : va_S A s.heap H locs) (hsize : ls.size = c.maxLocals)
    (d0 : decode cc pc = .ok (.new ik, 3)) (d3 : decode cc (pc + 3) = .ok (.dup, 1)) (d4 : decode cc (pc + 4) = .ok (.invokespecial ic, 3))
    (hfc : s.vm.findClass cls = some cD)
    (hRframes : names.length + 3 < R.frames) (hRlocals : (rest.map fun v => v.category).sum + (13 * (names.length + 1) + 42) ≤ R.locals) (hRcells : cells + 1 ≤ R.cells) (hRslots : slots + 6 ≤ R.slots)
    (kk : ∀ (H1 : Heap) (ce : Cell), H1.size = H.size + 1 → (∀ q : Nat, q < H.size → H1[q]? = H[q]?) → H1[H.size]? = some ce → ce.cls = cD → ce.vm = .none → va_S A s.heap H1 locs → W p l e R s m args below meth c H1 locs (cells + 1) (slots + 6) Q (F0 m (pc + 7) ls (.ref H.size :: rest))) :
    W p l e R s m args below meth c H locs cells slots Q (F0 m pc ls rest) := by
  intro T hT X
  subst hT
  have htr : e.platform.stackTraces = false := (show e.platform.stackTraces = l.stackTraces by rw [X.admits.platform]).trans hl
  have Y := vx_rebase X (R' := { frames := R.frames, locals := R.locals, cells := 1, slots := 6 }) (Nat.le_refl _) (Nat.le_refl _) hRcells hRslots
  obtain ⟨s', hA'⟩ : ∃ z, z = (T.setVm s.vm).setFrames (.invoking m args :: below) := ⟨_, rfl⟩
  rw [← hA'] at Y
  have hvm : s'.vm = s.vm := by rw [hA']; rfl
  have hhp : s'.heap = T.heap := by rw [hA']; rfl
  have hW0 : s.WarmedH s'.vm := by rw [hvm]; exact State.WarmedH.refl s
  have hat' : ∀ w ∈ vx_at0 own ic cls names, w.before args s' = true := fun w hw => vx_ot_at hW0 hvm.symm (hgood w (List.mem_cons_of_mem _ (List.mem_cons_of_mem _ hw))) (hat w hw)
  have hk' : (Cond.classLink own ik cls).before args s' = true := vx_ot_at hW0 hvm.symm (hgood _ List.mem_cons_self) hk
  have hini' : (Cond.initialized cls).before args s' = true := vx_ot_at hW0 hvm.symm (hgood _ (List.mem_cons_of_mem _ List.mem_cons_self)) hini
  have hU' : vx_Zq Bundle.tN "UNASSIGNED_STACK" Bundle.steD A s' s'.heap := by rw [hhp]; exact vx_Zq.moved hW0.alike (hU.kept hS.2.1)
  have hN' : vx_Zq Bundle.tN "SUPPRESSED_SENTINEL" Bundle.listD A s' s'.heap := by rw [hhp]; exact vx_Zq.moved hW0.alike (hN.kept hS.2.1)
  have h : ∀ w ∈ Bundle.ownAtoms0 own ic cls names, w.before args s' = true := vx_own hat' (vx_isRefq hU'.1) (vx_isRefq hN'.1) hU'.2.word hN'.2.word
  have hown' : s'.vm.findClass own = some m.cls := by rw [hvm]; exact hown
  have hins : (Cond.instantiable cls 6).before args s' = true := h _ (by simp [Bundle.ownAtoms0])
  obtain ⟨vm₁, cX, kX, hfX, hkX, -, -, X₁, st1⟩ := Y.newCold hexec (own := own) (C := cls) (index := ik) (n := 6) hown' hk' hins hini'
    (g := F0 m pc ls rest) rfl (by rw [hb]; exact d0) (Nat.le_refl _) (Nat.le_refl _)
  generalize hT1 : (T.setVm vm₁).pushCell { cls := cX, slots := kX.instanceTypes.map defaultValue, vm := .none } = T1 at X₁ st1
  have hcat : (Value.ref T.heap.size).category = 1 := rfl
  have hcellA : T1.heap[T.heap.size]? = some (freshCell cX kX) := by rw [← hT1]; exact State.heap_pushCell_size _ _
  have d3' : decode c.code (pc + 3) = .ok (.dup, 1) := by rw [hb]; exact d3
  obtain ⟨V, ce, L, Z, hL, hlt, hcl9, hvm9, st⟩ := vx_ctorMade0 X₁ hexec htr (own := own) (cls := cls) (names := names) (ic := ic) hown' hcls hnames h (fun x hx => nomatch hx) hfX hkX hcellA (by rw [hhp]; exact Nat.le_refl _)
    (g := { method := m, pc := pc + 4, locals := ls, stack := .ref T.heap.size :: .ref T.heap.size :: rest, locked := none }) rfl hsize (rest := rest) rfl
    (by rw [hb]; exact d4) hRframes (by simp only [List.map_cons, List.sum_cons, hcat]; omega)
  have Z0 := Stand.forget (locs := []) Z (fun y hy => by rw [hL y hy, hhp]; exact Nat.le_refl _)
  obtain ⟨f1, f2⟩ := vx_frame Z0.same
  rw [hhp] at f1 f2
  have hcid : ce.cls = cD := by
    rw [hcl9]
    have h1 := hfc
    rw [hvm] at hfX
    exact Option.some.inj (hfX.symm.trans h1)
  have hh : (V.setCell T.heap.size ce).heap[T.heap.size]? = some ce := heapAt_setCell_self (s := V) ce hlt
  subst hA'
  have X5 := vx_back9 X Y Z0
  have X6 : Stand p l e R s m args below meth c (V.setCell T.heap.size ce) locs (cells + 1) (slots + 6) := { X5 with same := X5.same.mono (by omega) (by omega) }
  have f3 : (V.setCell T.heap.size ce).heap.size ≤ T.heap.size + 1 := by
    have h9 := Z0.same
    have h8 := h9.2.2.1
    rw [hhp] at h8
    exact h8
  have f4 : T.heap.size < (V.setCell T.heap.size ce).heap.size := (Array.getElem?_eq_some_iff.mp hh).1
  obtain ⟨t, a1, b1⟩ := kk (V.setCell T.heap.size ce).heap ce (by omega) (fun q hq => f2 q hq (fun z hz => nomatch hz)) hh hcid hvm9 ⟨Nat.le_trans hS.1 f1, fun q h1 h2 => (f2 q (Nat.lt_of_lt_of_le h1 hS.1) (fun z hz => nomatch hz)).trans (hS.2.1 q h1 h2), hS.2.2⟩ _ rfl X6
  refine ⟨t, st1 _ ?_, b1⟩
  show Steps p.tables e below (T1.setTop { method := m, pc := pc + 3, locals := ls, stack := .ref T.heap.size :: rest, locked := none }) _
  jvm_step X₁.here [X₁.here.top, hexec, d3', Value.category]
  exact st _ a1
end
theorem o_aast_inv {t : Nat} {cis ts : List Nat} {nx : Nat} {env : AEnv} {ls : ALs} {st : List Value} {h : AH} {r : ASt ⊕ (AOut × AH)} (hr : o_aast t cis ts nx env ls st h = some r) : ∃ v i a rest n f, st = .ref v :: .int i :: .ref a :: rest ∧ ((∃ ci fs, h.1 v = some (true, .inr (ci, fs)) ∧ cis.contains ci = true) ∨ (∃ k, h.1 v = some (true, .inl k) ∧ ts.contains k.1 = true)) ∧
    h.1 a = some (true, .inl (t, n, .inr (.inr f))) ∧ hin i n = true ∧ r = .inl (nx, ls, rest, hset h a (true, .inl (t, n, .inr (.inr (va_up f i.toNatClampNeg (some v)))))) := by
  unfold o_aast at hr
  split at hr
  · next v i a rest =>
    split at hr
    · next ci fs e =>
      cases hk : cis.contains ci with
      | false => rw [hk] at hr; cases hr
      | true =>
        rw [hk] at hr
        simp only [cond_true] at hr
        split at hr
        · next h' e2 =>
          cases hr
          obtain ⟨n, f, e3, e4, rfl⟩ := hsq_inv e2
          exact ⟨v, i, a, rest, n, f, rfl, Or.inl ⟨ci, fs, e, hk⟩, e3, e4, rfl⟩
        · cases hr
    · next t' k e =>
      cases hk : ts.contains t' with
      | false => rw [hk] at hr; cases hr
      | true =>
        rw [hk] at hr
        simp only [cond_true] at hr
        split at hr
        · next h' e2 =>
          cases hr
          obtain ⟨n, f, e3, e4, rfl⟩ := hsq_inv e2
          exact ⟨v, i, a, rest, n, f, rfl, Or.inr ⟨_, e, hk⟩, e3, e4, rfl⟩
        · cases hr
    · cases hr
  · cases hr
theorem le_aast {t : Nat} {cis ts : List Nat} {nx : Nat} : HpLe (o_aast t cis ts nx) := by
  intro env ls st h r hr
  obtain ⟨v, i, a, rest, n, f, rfl, e1, e2, e3, rfl⟩ := o_aast_inv hr
  exact hLe_set
/-- words of the tables that hold in a method: those of the lists, and those that are carried -/
theorem word_of {γ : AG} {q : AMi} {x : MC} {d : Nat} (C : aCx γ x q d) {w : Cond} (h : w ∈ lw_tbl) (g : goodWord w = true ∨ (nwk w = true ∧ w.onTables = true)) : w.before x.2.2.2.2.2.2.1 (xs x) = true := by
  rcases g with g | ⟨g1, g2⟩
  · exact C.2.2.2.2.1 _ (lw_g h g)
  · exact va_Nw.use g2 (C.2.2.2.2.2.1.2.1 _ h g1)
section
variable {γ : AG} {q : AMi} {pc nx : Nat}
theorem ok_make {ci ik ic : Nat} {names : List String} {T0 : u_T} {cls : String} (hc : clT[ci]? = some (cls, T0, 0)) (hcls : Bundle.fit cls = true) (hnames : ∀ n ∈ names, Bundle.fit n = true) (hlen : names.length ≤ 4)
    (hk : Cond.classLink q.1.cls ik cls ∈ lw_all) (hini : Cond.initialized cls ∈ lw_all) (hat : ∀ w ∈ vx_at0 q.1.cls ic cls names, w ∈ lw_tbl) (hat2 : ∀ w ∈ vx_at0 q.1.cls ic cls names, goodWord w = true ∨ (nwk w = true ∧ w.onTables = true))
    (hgood : ∀ w ∈ Cond.classLink q.1.cls ik cls :: Cond.initialized cls :: vx_at0 q.1.cls ic cls names, vx_ot w = true)
    (d0 : decode q.2.1 pc = .ok (.new ik, 3)) (d3 : decode q.2.1 (pc + 3) = .ok (.dup, 1)) (d4 : decode q.2.1 (pc + 4) = .ok (.invokespecial ic, 3)) (hn : pc + 7 = nx) : HpOK γ q pc (o_make ci nx) := by
  intro x k0 d C env ls st h r hr
  obtain ⟨hst, rfl⟩ := o_make_inv hr
  refine ⟨_, rfl, ⟨Nat.le_succ _, Nat.le_add_right _ _⟩, fun b1 b2 H locs cells slots A Q I kk => ?_⟩
  subst hn
  have b1 : h.2.1 + 1 ≤ (xs x).heap.size + x.2.2.2.1.cells := b1
  have b2 : h.2.2.1 + 6 ≤ k0 + x.2.2.2.1.slots := b2
  have e1 := I.1.1
  have e2 := I.2.2.1
  have e3 := I.2.2.2.1
  have hb : γ.2.2.1 ≤ (xs x).heap.size := C.2.2.2.2.2.2.2.2.2.2.1
  have hkeep : ∀ a : Nat, a < H.size → ¬ γ.2.2.1 ≤ a → (xs x).heap[a]? = H[a]? := fun a _ hn => (I.2.1.2.1 a (Nat.lt_of_lt_of_le (Nat.not_le.mp hn) hb) hn).symm
  have hst : (st.map fun v => v.category).sum ≤ 8 := hst
  have hfc : (xs x).vm.findClass cls = some (γ.1.1 ci) := (C.2.2.2.2.2.1.1.1 ci _ hc).2.1
  have e4 : h.2.1 = H.size := e1
  refine am_make0 (names := names) C.1 C.2.1 C.2.2.2.2.2.2.2.1 C.2.2.2.1 hcls hnames (C.2.2.2.2.1 _ hk) (C.2.2.2.2.1 _ hini) (fun w hw => word_of C (hat w hw) (hat2 w hw)) hgood
    (vx_Zq.kept I.1.2.2.2.2.2.1 hkeep) (vx_Zq.kept I.1.2.2.2.2.2.2 hkeep) I.2.1 (I.2.2.2.2.2.1.trans C.2.2.1.symm) d0 d3 d4 hfc ?_ ?_ (by omega) (by omega) (fun H1 ce g1 g2 g3 g4 g5 g6 => ?_)
  · have := C.2.2.2.2.2.2.2.2.1; omega
  · have := C.2.2.2.2.2.2.2.2.2.1; omega
  · have K := kk H1 locs (cells + 1) (slots + 6) A (I.new g1 g2 ⟨I.1.2.1, _, hc, ce, g3, g4, g5, fun k hk => absurd hk (Nat.not_lt_zero k)⟩)
    dsimp only at K
    rw [e4] at K
    exact K
end
