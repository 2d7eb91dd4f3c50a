/-! ===== SOUNDNESS: what changes the heap ===== -/
def vI (v : Value) : Bool := match v with
  | .int _ => true
  | _ => false
def vZ (v : Value) : Bool := match v with
  | .int x => x == 0 || x == 1
  | _ => false
def vB (v : Value) : Bool := match v with
  | .int x => x == 0 || x == 1
  | _ => false
def vA (v : Value) : Bool := match v with
  | .ref _ => true
  | .null => true
  | _ => false
theorem vI_ok (v : Value) (h : vI v = true) : narrow .int v = v ∧ fits .int v = true := by
  unfold vI at h
  split at h
  · exact ⟨rfl, rfl⟩
  · cases h
theorem vZ_ok (v : Value) (h : vZ v = true) : narrow .boolean v = v ∧ fits .boolean v = true := by
  unfold vZ at h
  split at h
  · next x =>
    rw [Bool.or_eq_true, beq_iff_eq, beq_iff_eq] at h
    rcases h with rfl | rfl
    · exact ⟨by decide +kernel, by decide +kernel⟩
    · exact ⟨by decide +kernel, by decide +kernel⟩
  · cases h
theorem vB_ok (v : Value) (h : vB v = true) : narrow .byte v = v ∧ fits .byte v = true := by
  unfold vB at h
  split at h
  · next x =>
    rw [Bool.or_eq_true, beq_iff_eq, beq_iff_eq] at h
    rcases h with rfl | rfl
    · exact ⟨by decide +kernel, by decide +kernel⟩
    · exact ⟨by decide +kernel, by decide +kernel⟩
  · cases h
theorem vA_okO {C : String} (v : Value) (h : vA v = true) : narrow (.object C) v = v ∧ fits (.object C) v = true := by
  unfold vA at h
  split at h
  · exact ⟨rfl, rfl⟩
  · exact ⟨rfl, rfl⟩
  · cases h
theorem vA_okA {t : FieldType} (v : Value) (h : vA v = true) : narrow (.array t) v = v ∧ fits (.array t) v = true := by
  unfold vA at h
  split at h
  · exact ⟨rfl, rfl⟩
  · exact ⟨rfl, rfl⟩
  · cases h
theorem a_at.kept {γ : AG} {U : State} {a : Nat} {c : AC} {H H1 : Heap} (h : a_at γ U a c H) (hq : H1[a]? = H[a]?) : a_at γ U a c H1 := by
  match c, h with
  | (true, .inl k), h => exact ⟨h.1, h.2.1, by rw [hq]; exact h.2.2⟩
  | (true, .inr o), h =>
    obtain ⟨h0, r, h1, h2⟩ := h
    exact ⟨h0, r, h1, h2.kept hq⟩
  | (false, .inl k), h =>
    obtain ⟨h0, cell, ty, h1, h2, h3⟩ := h
    exact ⟨h0, cell, ty, h1, by rw [hq]; exact h2, h3⟩
  | (false, .inr o), h =>
    obtain ⟨h0, r, cell, h1, h2, h3⟩ := h
    exact ⟨h0, r, cell, h1, by rw [hq]; exact h2, h3⟩
theorem a_at.lt {γ : AG} {U : State} {a : Nat} {c : AC} {H : Heap} (h : a_at γ U a c H) : a < H.size := by
  match c, h with
  | (true, .inl k), h => exact (Array.getElem?_eq_some_iff.mp h.2.2).1
  | (true, .inr o), h =>
    obtain ⟨h0, r, h1, cell, h2, h3⟩ := h
    exact (Array.getElem?_eq_some_iff.mp h2).1
  | (false, .inl k), h =>
    obtain ⟨h0, cell, ty, h1, h2, h3⟩ := h
    exact (Array.getElem?_eq_some_iff.mp h2).1
  | (false, .inr o), h =>
    obtain ⟨h0, r, cell, h1, h2, h3⟩ := h
    exact (Array.getElem?_eq_some_iff.mp h2).1
theorem aRel.set {γ : AG} {U : State} {h : AH} {H H1 : Heap} {a : Nat} {c : AC} (r : aRel γ U h H) (hz : H1.size = H.size) (ho : ∀ q : Nat, q ≠ a → H1[q]? = H[q]?) (hc : a_at γ U a c H1) (hb : γ.2.2.1 ≤ a) : aRel γ U (hset h a c) H1 := by
  refine ⟨by rw [hz]; exact r.1, by rw [hz]; exact r.2.1, fun a' c' h' => ?_, r.2.2.2.1, fun i q hi h0 => va_Z.kept (r.2.2.2.2.1 i q hi h0) (fun a' _ hn => ho a' (fun e => hn (by rw [e]; exact hb))), vx_Zq.kept r.2.2.2.2.2.1 (fun a' _ hn => ho a' (fun e => hn (by rw [e]; exact hb))), vx_Zq.kept r.2.2.2.2.2.2 (fun a' _ hn => ho a' (fun e => hn (by rw [e]; exact hb)))⟩
  unfold hset at h'
  dsimp only at h'
  split at h'
  · next e => subst e; cases h'; exact hc
  · next e => exact (r.2.2.1 a' c' h').kept (ho a' e)
theorem aRel.new {γ : AG} {U : State} {h : AH} {H H1 : Heap} {c : AC} {w : Nat} (r : aRel γ U h H) (hz : H1.size = H.size + 1) (ho : ∀ q : Nat, q < H.size → H1[q]? = H[q]?) (hc : a_at γ U H.size c H1) : aRel γ U (hnew h c w) H1 := by
  refine ⟨by show h.2.1 + 1 = _; rw [hz, r.1], by rw [hz]; exact Nat.le_succ_of_le r.2.1, fun a' c' h' => ?_, r.2.2.2.1, fun i q hi h0 => va_Z.kept (r.2.2.2.2.1 i q hi h0) (fun a' hl _ => ho a' hl), vx_Zq.kept r.2.2.2.2.2.1 (fun a' hl _ => ho a' hl), vx_Zq.kept r.2.2.2.2.2.2 (fun a' hl _ => ho a' hl)⟩
  unfold hnew at h'
  dsimp only at h'
  rw [r.1] at h'
  split at h'
  · next e => subst e; cases h'; exact hc
  · next e => exact (r.2.2.1 a' c' h').kept (ho a' (r.2.2.1 a' c' h').lt)
theorem aIn.set {γ : AG} {x : MC} {k0 nL : Nat} {h : AH} {ls : ALs} {H H1 : Heap} {locs : List Loc} {cells slots : Nat} {A : Array Slot} {a k : Nat} {c : AC} (I : aIn γ x k0 nL h ls H locs cells slots A) (hz : H1.size = H.size) (ho : ∀ q : Nat, q ≠ a → H1[q]? = H[q]?) (hc : a_at γ (xs x) a c H1) (hb : γ.2.2.1 ≤ a) : aIn γ x k0 nL (hset h a c) ls H1 (locs ++ [⟨a, k⟩]) cells slots A :=
  ⟨I.1.set hz ho hc hb, I.2.1.put hz ho hb, by rw [hz]; exact I.2.2.1, I.2.2.2.1, I.2.2.2.2⟩
theorem aIn.new {γ : AG} {x : MC} {k0 nL : Nat} {h : AH} {ls : ALs} {H H1 : Heap} {locs : List Loc} {cells slots w : Nat} {A : Array Slot} {c : AC} (I : aIn γ x k0 nL h ls H locs cells slots A) (hz : H1.size = H.size + 1) (ho : ∀ q : Nat, q < H.size → H1[q]? = H[q]?) (hc : a_at γ (xs x) H.size c H1) : aIn γ x k0 nL (hnew h c w) ls H1 locs (cells + 1) (slots + w) A :=
  ⟨I.1.new hz ho hc, ⟨Nat.le_trans I.2.1.1 (by omega), fun z h1 h2 => (ho z (Nat.lt_of_lt_of_le h1 I.2.1.1)).trans (I.2.1.2.1 z h1 h2), I.2.1.2.2⟩, by have := I.2.2.1; omega, by have := I.2.2.2.1; show _ = h.2.2.1 + w; omega, I.2.2.2.2⟩
/-- an instruction that changes the heap, and goes on -/
def HpOK (γ : AG) (q : AMi) (pc : Nat) (op : AOp) : Prop := ∀ (x : MC) (k0 d : Nat), aCx γ x q (d + 1) → ∀ env ls st h r, op env ls st h = some r → ∃ t, r = .inl t ∧ hLe h t.2.2.2 ∧
  (t.2.2.2.2.1 ≤ (xs x).heap.size + x.2.2.2.1.cells → t.2.2.2.2.2.1 ≤ k0 + x.2.2.2.1.slots → ∀ H locs cells slots A Q, aIn γ x k0 q.2.2.1 h ls H locs cells slots A →
    (∀ H' locs' cells' slots' A', aIn γ x k0 q.2.2.1 t.2.2.2 t.2.1 H' locs' cells' slots' A' → aW x H' locs' cells' slots' Q (F0 (xm x) t.1 A' t.2.2.1)) → aW x H locs cells slots Q (F0 (xm x) pc A st))
def HpLe (op : AOp) : Prop := ∀ env ls st h r, op env ls st h = some r → hLe h (rH r)
theorem ok_hp {γ : AG} {q : AMi} {pc : Nat} {op : AOp} (H : HpOK γ q pc op) (L : HpLe op) : OpOK γ q pc op ∧ OpMono op := by
  refine ⟨?_, ?_⟩
  · intro x k0 d env C he hm ls st h r ho b1 b2 Q K
    obtain ⟨t, rfl, hl, k⟩ := H x k0 d C env ls st h r ho
    intro H1 locs cells slots A I
    exact k b1 b2 H1 locs cells slots A Q I K
  · intro env he ls st h r ho
    exact L env ls st h r ho
theorem hpf_inv {h h' : AH} {cis : List Nat} {a k : Nat} {v : Value} (hv : hpf h cis a k v = some h') : ∃ ci fs, h.1 a = some (true, .inr (ci, fs)) ∧ cis.contains ci = true ∧ k < fs.length ∧ h' = hset h a (true, .inr (ci, fs.set k v)) := by
  unfold hpf at hv
  split at hv
  · next ci fs e =>
    cases hc : cis.contains ci && Nat.blt k fs.length with
    | false => rw [hc] at hv; cases hv
    | true =>
      rw [hc] at hv
      obtain ⟨h1, h2⟩ := bsplit hc
      exact ⟨ci, fs, e, h1, Nat.blt_eq.mp h2, (Option.some.inj hv).symm⟩
  · cases hv
theorem o_putf_inv {cis : List Nat} {k nx : Nat} {ok : Value → Bool} {env : AEnv} {ls : ALs} {st : List Value} {h : AH} {r : ASt ⊕ (AOut × AH)} (hr : o_putf cis k ok nx env ls st h = some r) : ∃ v a rest ci fs, st = v :: .ref a :: rest ∧ ok v = true ∧ h.1 a = some (true, .inr (ci, fs)) ∧ cis.contains ci = true ∧ k < fs.length ∧ r = .inl (nx, ls, rest, hset h a (true, .inr (ci, fs.set k v))) := by
  unfold o_putf at hr
  split at hr
  · next v a rest =>
    cases hk : ok v with
    | false => rw [hk] at hr; cases hr
    | true =>
      rw [hk] at hr
      simp only [cond_true] at hr
      split at hr
      · next h' e =>
        cases hr
        obtain ⟨ci, fs, e1, e2, e3, rfl⟩ := hpf_inv e
        exact ⟨v, a, rest, ci, fs, rfl, hk, e1, e2, e3, rfl⟩
      · cases hr
  · cases hr
theorem hLe_set {h : AH} {a : Nat} {c : AC} : hLe h (hset h a c) := ⟨Nat.le_refl _, Nat.le_refl _⟩
theorem le_putf {cis : List Nat} {k nx : Nat} {ok : Value → Bool} : HpLe (o_putf cis k ok nx) := by
  intro env ls st h r hr
  obtain ⟨v, a, rest, ci, fs, rfl, hv, e1, e2, e3, rfl⟩ := o_putf_inv hr
  exact hLe_set
def finOK (cis : List Nat) (k : Nat) (b : Bool) : Bool := cis.all fun ci => match clT[ci]? with
  | some r => (r.2.1 k).2.2.2 == b
  | none => false
theorem finOK_at {cis : List Nat} {k : Nat} {b : Bool} (h : finOK cis k b = true) {ci : Nat} (hc : cis.contains ci = true) : ∃ r, clT[ci]? = some r ∧ (r.2.1 k).2.2.2 = b := by
  have h1 := List.all_eq_true.mp h ci (List.contains_iff_mem.mp hc)
  split at h1
  · next r hr => exact ⟨r, hr, beq_iff_eq.mp h1⟩
  · cases h1
section
variable {γ : AG} {q : AMi} {pc nx : Nat}
theorem ok_putf {cis : List Nat} {k index : Nat} {ok : Value → Bool} {decl ref name desc : String} {ty : FieldType} (hF : fldOK cis k decl name desc = true) (hsm : FSame γ q decl ref name desc) (hfin : finOK cis k false = true) (hw : fLink q.1.cls index ref name desc) (hd : parseFieldDescriptor desc = some ty) (hok : ∀ v, ok v = true → narrow ty v = v ∧ fits ty v = true)
    (hdg : decode q.2.1 pc = .ok (.putfield index, 3)) (hn : pc + 3 = nx) : HpOK γ q pc (o_putf cis k ok nx) := by
  intro x k0 d C env ls st h r hr
  obtain ⟨v, a, rest, ci, fs, rfl, hv, hm, hc, hl, rfl⟩ := o_putf_inv hr
  refine ⟨_, rfl, hLe_set, fun _ _ H locs cells slots A Q I kk => ?_⟩
  subst hn
  obtain ⟨r, hr1, hk, e1, e2, e3⟩ := fldOK_at hF hc
  obtain ⟨r2, hr2, hfn⟩ := finOK_at hfin hc
  have hrr2 : r2 = r := Option.some.inj ((clR_T hr2).symm.trans hr1)
  subst hrr2
  obtain ⟨hb0, r', hr', cell, q1, q2, q3, q4⟩ := I.1.2.2.1 a _ hm
  have hrr : r' = r2 := Option.some.inj (hr'.symm.trans hr2)
  subst hrr
  obtain ⟨hn1, hn2⟩ := hok v hv
  have hin0 := cl_in _ (List.mem_of_getElem? hr')
  obtain ⟨ty0, hty0⟩ := cl_ty _ (List.mem_of_getElem? hr')
  have hap := va_apart (own := q.1.cls) C.2.2.2.2.1 hin0 ty0 hty0 (cl_nm _ (List.mem_of_getElem? hr')) C.2.2.2.2.2.1.1 hr'
  obtain ⟨hS, hfc, kC, hkC, hkind⟩ := C.2.2.2.2.2.1.1.1 ci _ hr'
  obtain ⟨cf, kf, fi, f, hi, hsl⟩ := hS k hk
  have hlay := C.2.2.2.2.1 _ (hin0 _ (u_in_lay hk))
  unfold u_lay at hlay
  rw [if_neg (by rw [hfn]; decide)] at hlay
  have hst := (u_facts hfc hkC (u_lays C.2.2.2.2.1 hin0 hk) hi).1
  have h6 := u_store hfc hkC hkind hlay hi (by rw [e3]; exact hd) hn1 hn2
  rw [e1, e2, e3] at hi
  have hi := hsm x _ C _ hi
  have key : ∀ H1 : Heap, H1[a]? = some (cell.setSlot f.slot v) → H1.size = H.size → (∀ q, q ≠ a → H1[q]? = H[q]?) → aW x H1 (locs ++ [⟨a, f.slot⟩]) cells slots Q (F0 (xm x) (pc + 3) A rest) := by
    intro H1 g1 g2 g3
    rw [hsl] at g1
    exact kk H1 _ cells slots A (I.set g2 g3 ⟨hb0, r', hr', t_OB.to (V := updV (vp_V fs) k v) ⟨_, g1, q2, q3, t_set q4 hap hk v⟩ (fun j _ => vp_updV_set hl v j)⟩ hb0)
  rcases hw with hw | ⟨host, hw⟩
  · exact W.putK C.1 C.2.1 (f := f) ⟨C.2.2.2.1, C.2.2.2.2.1 _ hw, ⟨_, _, _, hi⟩, hst⟩ (by rw [q2]; exact h6) q1 q3 (by rw [hsl]; exact k2_hasslot (q4 k hk)) rfl rfl hdg key
  · exact va_WputK C.1 C.2.1 C.2.2.2.1 (va_Nw.use rfl (C.2.2.2.2.2.1.2.1 _ hw rfl)) hi hst (by rw [q2]; exact h6) q1 q3 (by rw [hsl]; exact k2_hasslot (q4 k hk)) rfl rfl hdg key
theorem ok_putF {cis : List Nat} {k index : Nat} {ok : Value → Bool} {name desc : String} {ty : FieldType} (hF : fldOK cis k q.1.cls name desc = true) (hfin : finOK cis k true = true) (hw : Cond.fieldLink q.1.cls index q.1.cls name desc ∈ lw_all) (hin2 : q.1.name = "<init>") (hd : parseFieldDescriptor desc = some ty) (hok : ∀ v, ok v = true → narrow ty v = v ∧ fits ty v = true)
    (hdg : decode q.2.1 pc = .ok (.putfield index, 3)) (hn : pc + 3 = nx) : HpOK γ q pc (o_putf cis k ok nx) := by
  intro x k0 d C env ls st h r hr
  obtain ⟨v, a, rest, ci, fs, rfl, hv, hm, hc, hl, rfl⟩ := o_putf_inv hr
  refine ⟨_, rfl, hLe_set, fun _ _ H locs cells slots A Q I kk => ?_⟩
  subst hn
  obtain ⟨r, hr1, hk, e1, e2, e3⟩ := fldOK_at hF hc
  obtain ⟨r2, hr2, hfn⟩ := finOK_at hfin hc
  have hrr2 : r2 = r := Option.some.inj ((clR_T hr2).symm.trans hr1)
  subst hrr2
  obtain ⟨hb0, r', hr', cell, q1, q2, q3, q4⟩ := I.1.2.2.1 a _ hm
  have hrr : r' = r2 := Option.some.inj (hr'.symm.trans hr2)
  subst hrr
  obtain ⟨hn1, hn2⟩ := hok v hv
  have hin0 := cl_in _ (List.mem_of_getElem? hr')
  obtain ⟨ty0, hty0⟩ := cl_ty _ (List.mem_of_getElem? hr')
  have hap := va_apart (own := q.1.cls) C.2.2.2.2.1 hin0 ty0 hty0 (cl_nm _ (List.mem_of_getElem? hr')) C.2.2.2.2.2.1.1 hr'
  obtain ⟨hS, hfc, kC, hkC, hkind⟩ := C.2.2.2.2.2.1.1.1 ci _ hr'
  obtain ⟨cf, kf, fi, f, hi, hsl⟩ := hS k hk
  have hlay := C.2.2.2.2.1 _ (hin0 _ (u_in_lay hk))
  unfold u_lay at hlay
  rw [if_pos hfn] at hlay
  have hst := (u_facts hfc hkC (u_lays C.2.2.2.2.1 hin0 hk) hi).1
  have hcf : (xm x).cls = cf := by
    obtain ⟨_, _, c', _, _, _, -, -, hf', -, -, -, hown2, -⟩ := Cond.laysFinal_spec hlay
    have e9 : c' = cf := by have := hi.symm.trans hf'; simp at this; exact this.1.symm
    rw [e1] at hown2
    rw [← e9]; exact Option.some.inj (C.2.2.2.1.symm.trans hown2)
  have h6 := u_fits hfc hkC hkind (Or.inr hlay) hi (by rw [e3]; exact hd) hn1 hn2
  rw [e1, e2, e3] at hi
  refine W.putFinK C.1 C.2.1 C.2.2.2.1 (C.2.2.2.2.1 _ hw) hi hst hcf (C.2.2.2.2.2.2.2.2.2.2.2.1.trans hin2) (by rw [q2]; exact h6) q1 q3 (by rw [hsl]; exact k2_hasslot (q4 k hk)) rfl rfl hdg fun H1 g1 g2 g3 => ?_
  rw [hsl] at g1
  exact kk H1 _ cells slots A (I.set (k := f.slot) g2 g3 ⟨hb0, r', hr', t_OB.to (V := updV (vp_V fs) k v) ⟨_, g1, q2, q3, t_set q4 hap hk v⟩ (fun j _ => vp_updV_set hl v j)⟩ hb0)
theorem hsi_inv {h h' : AH} {t a : Nat} {i y : Int32} (hv : hsi h t a i y = some h') : ∃ n f, h.1 a = some (true, .inl (t, n, .inl f)) ∧ hin i n = true ∧ h' = hset h a (true, .inl (t, n, .inl (upd f i.toNatClampNeg y))) := by
  unfold hsi at hv
  split at hv
  · next t' n f e =>
    cases hc : Nat.beq t' t && hin i n with
    | false => rw [hc] at hv; cases hv
    | true =>
      rw [hc] at hv
      obtain ⟨h1, h2⟩ := bsplit hc
      have := Nat.eq_of_beq_eq_true h1
      subst this
      exact ⟨n, f, e, h2, (Option.some.inj hv).symm⟩
  · cases hv
theorem hsj_inv {h h' : AH} {t a : Nat} {i : Int32} {y : Int64} (hv : hsj h t a i y = some h') : ∃ n f, h.1 a = some (true, .inl (t, n, .inr (.inl f))) ∧ hin i n = true ∧ h' = hset h a (true, .inl (t, n, .inr (.inl (vp_updL f i.toNatClampNeg y)))) := by
  unfold hsj at hv
  split at hv
  · next t' n f e =>
    cases hc : Nat.beq t' t && hin i n with
    | false => rw [hc] at hv; cases hv
    | true =>
      rw [hc] at hv
      obtain ⟨h1, h2⟩ := bsplit hc
      have := Nat.eq_of_beq_eq_true h1
      subst this
      exact ⟨n, f, e, h2, (Option.some.inj hv).symm⟩
  · cases hv
theorem hsq_inv {h h' : AH} {t a : Nat} {i : Int32} {y : Option Nat} (hv : hsq h t a i y = some h') : ∃ n f, h.1 a = some (true, .inl (t, n, .inr (.inr f))) ∧ hin i n = true ∧ h' = hset h a (true, .inl (t, n, .inr (.inr (va_up f i.toNatClampNeg y)))) := by
  unfold hsq at hv
  split at hv
  · next t' n f e =>
    cases hc : Nat.beq t' t && hin i n with
    | false => rw [hc] at hv; cases hv
    | true =>
      rw [hc] at hv
      obtain ⟨h1, h2⟩ := bsplit hc
      have := Nat.eq_of_beq_eq_true h1
      subst this
      exact ⟨n, f, e, h2, (Option.some.inj hv).symm⟩
  · cases hv
theorem o_iast_inv {t : Nat} {nar : Int32 → Int32} {env : AEnv} {ls : ALs} {st : List Value} {h : AH} {r : ASt ⊕ (AOut × AH)} (hr : o_iast t nar nx env ls st h = some r) : ∃ y i a rest n f, st = .int y :: .int i :: .ref a :: rest ∧ h.1 a = some (true, .inl (t, n, .inl f)) ∧ hin i n = true ∧ r = .inl (nx, ls, rest, hset h a (true, .inl (t, n, .inl (upd f i.toNatClampNeg (nar y))))) := by
  unfold o_iast at hr
  split at hr
  · next y i a rest =>
    split at hr
    · next h' e =>
      cases hr
      obtain ⟨n, f, e1, e2, rfl⟩ := hsi_inv e
      exact ⟨y, i, a, rest, n, f, rfl, e1, e2, rfl⟩
    · cases hr
  · cases hr
theorem le_iast {t : Nat} {nar : Int32 → Int32} : HpLe (o_iast t nar nx) := by
  intro env ls st h r hr
  obtain ⟨y, i, a, rest, n, f, rfl, e1, e2, rfl⟩ := o_iast_inv hr
  exact hLe_set
theorem aCon_upd (f : Nat → Int32) (k : Nat) (y : Int32) : updV (aCon (.inl f)) k (.int y) = aCon (.inl (upd f k y)) := by
  funext j
  by_cases hj : j = k
  · subst hj; simp [updV, upd, aCon]
  · simp [updV, upd, aCon, hj]
theorem aCon_updL (f : Nat → Int64) (k : Nat) (y : Int64) : updV (aCon (.inr (.inl f))) k (.long y) = aCon (.inr (.inl (vp_updL f k y))) := by
  funext j
  by_cases hj : j = k
  · subst hj; simp [updV, vp_updL, aCon]
  · simp [updV, vp_updL, aCon, hj]
theorem aCon_updQ (f : Nat → Option Nat) (k : Nat) (y : Option Nat) : updV (aCon (.inr (.inr f))) k (va_rf y) = aCon (.inr (.inr (va_up f k y))) := by
  funext j
  by_cases hj : j = k
  · subst hj; simp [updV, va_up, aCon]
  · simp [updV, va_up, aCon, hj]
theorem ok_iast (hdg : decode q.2.1 pc = .ok (.iastore, 1)) (hn : pc + 1 = nx) : HpOK γ q pc (o_iast 0 (fun y => y) nx) := by
  intro x k0 d C env ls st h r hr
  obtain ⟨y, i, a, rest, n, f, rfl, hm, hi, rfl⟩ := o_iast_inv hr
  refine ⟨_, rfl, hLe_set, fun _ _ H locs cells slots A Q I kk => ?_⟩
  subst hn
  obtain ⟨hb0, ht, hc⟩ := I.1.2.2.1 a _ hm
  obtain ⟨i1, i2⟩ := hin_iff hi
  refine W.iast C.1 C.2.1 hc ((C.2.2.2.2.2.1.1.2 0 _ (atys_at rfl)).1 n (aCon (.inl f))) (by intro e; cases e) (by rw [arrV_size]; exact i1) rfl rfl hdg fun H1 g1 g2 g3 => ?_
  rw [arrV_store, aCon_upd] at g1
  exact kk H1 _ cells slots A (I.set g2 g3 ⟨hb0, ht, g1⟩ hb0)
theorem ok_bast (hdg : decode q.2.1 pc = .ok (.bastore, 1)) (hn : pc + 1 = nx) : HpOK γ q pc (o_iast 1 (fun y => y.toInt8.toInt32) nx) := by
  intro x k0 d C env ls st h r hr
  obtain ⟨y, i, a, rest, n, f, rfl, hm, hi, rfl⟩ := o_iast_inv hr
  refine ⟨_, rfl, hLe_set, fun _ _ H locs cells slots A Q I kk => ?_⟩
  subst hn
  obtain ⟨hb0, ht, hc⟩ := I.1.2.2.1 a _ hm
  obtain ⟨i1, i2⟩ := hin_iff hi
  refine W.bast C.1 C.2.1 hc ((C.2.2.2.2.2.1.1.2 1 _ (atys_at rfl)).1 n (aCon (.inl f))) (by intro e; cases e) (by rw [arrV_size]; exact i1) rfl rfl hdg fun H1 g1 g2 g3 => ?_
  rw [arrV_store, narrow_byte, aCon_upd] at g1
  exact kk H1 _ cells slots A (I.set g2 g3 ⟨hb0, ht, g1⟩ hb0)
theorem o_last_inv {t : Nat} {env : AEnv} {ls : ALs} {st : List Value} {h : AH} {r : ASt ⊕ (AOut × AH)} (hr : o_last t nx env ls st h = some r) : ∃ y i a rest n f, st = .long y :: .int i :: .ref a :: rest ∧ h.1 a = some (true, .inl (t, n, .inr (.inl f))) ∧ hin i n = true ∧ r = .inl (nx, ls, rest, hset h a (true, .inl (t, n, .inr (.inl (vp_updL f i.toNatClampNeg y))))) := by
  unfold o_last at hr
  split at hr
  · next y i a rest =>
    split at hr
    · next h' e =>
      cases hr
      obtain ⟨n, f, e1, e2, rfl⟩ := hsj_inv e
      exact ⟨y, i, a, rest, n, f, rfl, e1, e2, rfl⟩
    · cases hr
  · cases hr
theorem le_last {t : Nat} : HpLe (o_last t nx) := by
  intro env ls st h r hr
  obtain ⟨y, i, a, rest, n, f, rfl, e1, e2, rfl⟩ := o_last_inv hr
  exact hLe_set
theorem ok_last (hdg : decode q.2.1 pc = .ok (.lastore, 1)) (hn : pc + 1 = nx) : HpOK γ q pc (o_last 2 nx) := by
  intro x k0 d C env ls st h r hr
  obtain ⟨y, i, a, rest, n, f, rfl, hm, hi, rfl⟩ := o_last_inv hr
  refine ⟨_, rfl, hLe_set, fun _ _ H locs cells slots A Q I kk => ?_⟩
  subst hn
  obtain ⟨hb0, ht, hc⟩ := I.1.2.2.1 a _ hm
  obtain ⟨i1, i2⟩ := hin_iff hi
  refine W.last C.1 C.2.1 hc ((C.2.2.2.2.2.1.1.2 2 _ (atys_at rfl)).1 n (aCon (.inr (.inl f)))) (by intro e; cases e) (by rw [arrV_size]; exact i1) rfl rfl hdg fun H1 g1 g2 g3 => ?_
  rw [arrV_store, aCon_updL] at g1
  exact kk H1 _ cells slots A (I.set g2 g3 ⟨hb0, ht, g1⟩ hb0)
end
