/-! ===== SOUNDNESS: stores of references, arraycopy, clone, Class objects, instanceof ===== -/
/-- every listed class, and every listed array type, may stand in an array of Objects -/
def anyOK (cis ts : List Nat) : Prop := (∀ ci ∈ cis, ∃ r, clR[ci]? = some r ∧ Cond.castable r.1 "java/lang/Object" ∈ lw_tbl) ∧ ∀ t ∈ ts, ∃ nm, Cond.castable nm "java/lang/Object" ∈ lw_tbl ∧ ∀ (γ : AG) (x : MC), aTab γ (xs x) → (xs x).vm.findClass nm = some (γ.2.1 t)
/-- may this reference be stored into an array of Objects? -/
def refOK (h : AH) (cis ts : List Nat) (v : Nat) : Bool := match h.1 v with
  | some (true, .inr (ci, _)) => cis.contains ci
  | some (true, .inl (t, _)) => ts.contains t
  | _ => false
theorem any_of {γ : AG} {q : AMi} {x : MC} {d : Nat} (C : aCx γ x q d) {cis ts : List Nat} (ha : anyOK cis ts) {h : AH} {H : Heap} (r : aRel γ (xs x) h H) {v : Nat} (hv : refOK h cis ts v = true) : va_Any "java/lang/Object" (xs x) H v := by
  unfold refOK at hv
  split at hv
  · next ci fs e =>
    obtain ⟨r0, hr0, hw⟩ := ha.1 ci (List.contains_iff_mem.mp hv)
    obtain ⟨cell, g1, g2, g3⟩ := recv_at C r (b := v) (ci := ci) (by unfold hci; rw [e]) (C0 := r0.1) (by rw [hr0]; rfl)
    obtain ⟨c0, t0, f1, f2, f3⟩ := Cond.castable_spec (va_Nw.use (A := x.2.2.2.2.2.2.1) rfl (C.2.2.2.2.2.1.2.1 _ hw rfl))
    cases g3.symm.trans f1
    obtain ⟨kC, hkC, -⟩ := Vm.findClass_spec g3
    exact ⟨cell, g1, g2, ⟨kC, hkC⟩, fun comp hc => by cases f2.symm.trans hc; exact f3⟩
  · next t k e =>
    obtain ⟨nm, hw, hf⟩ := ha.2 t (List.contains_iff_mem.mp hv)
    have hat := r.2.2.1 v _ e
    obtain ⟨c0, t0, f1, f2, f3⟩ := Cond.castable_spec (va_Nw.use (A := x.2.2.2.2.2.2.1) rfl (C.2.2.2.2.2.1.2.1 _ hw rfl))
    have g3 := hf γ x C.2.2.2.2.2.1
    cases g3.symm.trans f1
    obtain ⟨kC, hkC, -⟩ := Vm.findClass_spec g3
    exact ⟨_, hat.2.2, rfl, ⟨kC, hkC⟩, fun comp hc => by cases f2.symm.trans hc; exact f3⟩
  · cases hv
def refAll (h : AH) (cis ts : List Nat) (f : Nat → Option Nat) (sp n : Nat) : Bool := (List.range n).all (fun i => match f (sp + i) with
  | none => true
  | some v => refOK h cis ts v)
def fitAll (t : Nat) (f : Nat → Int32) (sp n : Nat) : Bool := (List.range n).all (fun i => match tyT[t]? with
  | some ty => fits ty (.int (f (sp + i)))
  | none => false)
def inR (sp n : Int32) (n0 : Nat) : Bool := !decide (sp < 0) && !decide (n < 0) && Nat.ble (sp.toNatClampNeg + n.toNatClampNeg) n0
/-- System.arraycopy between arrays of one type: of ints or bytes; of Objects -/
def hcpy (h : AH) (cis ts : List Nat) (a0 a : Nat) (sp dp n : Int32) : Option AH := match h.1 a0, h.1 a with
  | some (_, .inl (t0, n0, .inl f)), some (true, .inl (t1, n1, .inl g)) => bif Nat.beq t0 t1 && Nat.ble t0 1 && inR sp n n0 && inR dp n n1 && fitAll t0 f sp.toNatClampNeg n.toNatClampNeg then some (hset h a (true, .inl (t1, n1, .inl (va_cpy f g sp.toNatClampNeg dp.toNatClampNeg n.toNatClampNeg)))) else none
  | some (_, .inl (t0, n0, .inr (.inr f))), some (true, .inl (t1, n1, .inr (.inr g))) => bif Nat.beq t0 3 && Nat.beq t1 3 && inR sp n n0 && inR dp n n1 && refAll h cis ts f sp.toNatClampNeg n.toNatClampNeg then some (hset h a (true, .inl (t1, n1, .inr (.inr (va_cpy f g sp.toNatClampNeg dp.toNatClampNeg n.toNatClampNeg))))) else none
  | _, _ => none
def o_copy (cis ts : List Nat) (nx : Nat) : AOp := fun _ ls st h => match st with
  | .int n :: .int dp :: .ref a :: .int sp :: .ref a0 :: rest => bif okR rest then (match hcpy h cis ts a0 a sp dp n with
    | some h' => some (.inl (nx, ls, rest, h'))
    | none => none) else none
  | _ => none
theorem hcpy_inv {h h' : AH} {cis ts : List Nat} {a0 a : Nat} {sp dp n : Int32} (hv : hcpy h cis ts a0 a sp dp n = some h') : ∃ b t n0 n1, t < 6 ∧ inR sp n n0 = true ∧ inR dp n n1 = true ∧
    ((∃ f g, (t = 0 ∨ t = 1) ∧ h.1 a0 = some (b, .inl (t, n0, .inl f)) ∧ h.1 a = some (true, .inl (t, n1, .inl g)) ∧ fitAll t f sp.toNatClampNeg n.toNatClampNeg = true ∧ h' = hset h a (true, .inl (t, n1, .inl (va_cpy f g sp.toNatClampNeg dp.toNatClampNeg n.toNatClampNeg)))) ∨
     (∃ f g, t = 3 ∧ h.1 a0 = some (b, .inl (t, n0, .inr (.inr f))) ∧ h.1 a = some (true, .inl (t, n1, .inr (.inr g))) ∧ refAll h cis ts f sp.toNatClampNeg n.toNatClampNeg = true ∧ h' = hset h a (true, .inl (t, n1, .inr (.inr (va_cpy f g sp.toNatClampNeg dp.toNatClampNeg n.toNatClampNeg)))))) := by
  unfold hcpy at hv
  split at hv
  · next b t0 n0 f t1 n1 g e1 e2 =>
    obtain ⟨hb, hz⟩ := bif_inv hv
    obtain ⟨hb, h5⟩ := bsplit hb
    obtain ⟨hb, h4⟩ := bsplit hb
    obtain ⟨hb, h3⟩ := bsplit hb
    obtain ⟨h1, h2⟩ := bsplit hb
    have := Nat.eq_of_beq_eq_true h1
    subst this
    have h2 := Nat.le_of_ble_eq_true h2
    exact ⟨b, t0, n0, n1, by omega, h3, h4, Or.inl ⟨f, g, by omega, e1, e2, h5, (Option.some.inj hz).symm⟩⟩
  · next b t0 n0 f t1 n1 g e1 e2 =>
    obtain ⟨hb, hz⟩ := bif_inv hv
    obtain ⟨hb, h5⟩ := bsplit hb
    obtain ⟨hb, h4⟩ := bsplit hb
    obtain ⟨hb, h3⟩ := bsplit hb
    obtain ⟨h1, h2⟩ := bsplit hb
    have g1 := Nat.eq_of_beq_eq_true h1
    have g2 := Nat.eq_of_beq_eq_true h2
    subst g1 g2
    exact ⟨b, 3, n0, n1, by omega, h3, h4, Or.inr ⟨f, g, rfl, e1, e2, h5, (Option.some.inj hz).symm⟩⟩
  · cases hv
theorem o_copy_inv {cis ts : List Nat} {nx : Nat} {env : AEnv} {ls : ALs} {st : List Value} {h : AH} {r : ASt ⊕ (AOut × AH)} (hr : o_copy cis ts nx env ls st h = some r) : ∃ n dp a sp a0 rest h', st = .int n :: .int dp :: .ref a :: .int sp :: .ref a0 :: rest ∧ okR rest = true ∧ hcpy h cis ts a0 a sp dp n = some h' ∧ r = .inl (nx, ls, rest, h') := by
  unfold o_copy at hr
  split at hr
  · next n dp a sp a0 rest =>
    obtain ⟨hb, hz⟩ := bif_inv hr
    split at hz
    · next h' e => exact ⟨n, dp, a, sp, a0, rest, h', rfl, hb, e, (Option.some.inj hz).symm⟩
    · cases hz
  · cases hr
theorem le_copy {cis ts : List Nat} {nx : Nat} : HpLe (o_copy cis ts nx) := by
  intro env ls st h r hr
  obtain ⟨n, dp, a, sp, a0, rest, h', rfl, -, hc, rfl⟩ := o_copy_inv hr
  obtain ⟨b, t, n0, n1, -, -, -, ⟨f, g, -, -, -, -, rfl⟩ | ⟨f, g, -, -, -, -, rfl⟩⟩ := hcpy_inv hc
  · exact hLe_set
  · exact hLe_set
theorem inR_iff {sp n : Int32} {n0 : Nat} (h : inR sp n n0 = true) : ¬ sp < 0 ∧ ¬ n < 0 ∧ sp.toNatClampNeg + n.toNatClampNeg ≤ n0 := by
  unfold inR at h
  obtain ⟨h, h3⟩ := bsplit h
  obtain ⟨h1, h2⟩ := bsplit h
  simp only [Bool.not_eq_true', decide_eq_false_iff_not] at h1 h2
  exact ⟨h1, h2, Nat.le_of_ble_eq_true h3⟩
theorem toInt_clamp {z : Int32} (hz : ¬ z < 0) : z.toInt = (z.toNatClampNeg : Int) := by
  have hz0 : (0 : Int) ≤ z.toInt := by
    have := Int32.not_lt.mp hz
    simpa using Int32.le_iff_toInt_le.mp this
  show z.toInt = ((z.toInt.toNat : Nat) : Int)
  omega
theorem aIn.cpy {γ : AG} {x : MC} {k0 nL : Nat} {h : AH} {ls : ALs} {H H1 : Heap} {locs ll : List Loc} {cells slots : Nat} {A : Array Slot} {a : Nat} {c : AC} (I : aIn γ x k0 nL h ls H locs cells slots A) (hz : H1.size = H.size) (ho : ∀ q : Nat, q ≠ a → H1[q]? = H[q]?) (hc : a_at γ (xs x) a c H1) (hb : γ.2.2.1 ≤ a) (hll : ∀ z ∈ ll, z.base = a) : aIn γ x k0 nL (hset h a c) ls H1 (locs ++ ll) cells slots A :=
  ⟨I.1.set hz ho hc hb, ⟨by rw [hz]; exact I.2.1.1, fun q g1 g2 => by
    rw [ho q (fun e => g2 (by rw [e]; exact hb))]
    exact I.2.1.2.1 q g1 g2, fun z hq => by
    rcases List.mem_append.mp hq with h1 | h1
    · exact I.2.1.2.2 z h1
    · rw [hll z h1]; exact hb⟩, by rw [hz]; exact I.2.2.1, I.2.2.2.1, I.2.2.2.2⟩
section
variable {γ : AG} {q : AMi} {pc nx : Nat}
theorem ok_aast {cis ts : List Nat} (ha : anyOK cis ts) (hdg : decode q.2.1 pc = .ok (.aastore, 1)) (hn : pc + 1 = nx) : HpOK γ q pc (o_aast 3 cis ts nx) := by
  intro x k0 d C env ls st h r hr
  obtain ⟨v, i, a, rest, n, f, rfl, hv, hm, hi, rfl⟩ := o_aast_inv hr
  refine ⟨_, rfl, hLe_set, fun _ _ H locs cells slots A Q I kk => ?_⟩
  subst hn
  obtain ⟨hb0, ht, hc⟩ := I.1.2.2.1 a _ hm
  obtain ⟨i1, i2⟩ := hin_iff hi
  have hany : va_Any "java/lang/Object" (xs x) H v := any_of C ha I.1 (by
    unfold refOK
    rcases hv with ⟨ci, fs, e1, e2⟩ | ⟨k, e1, e2⟩
    · rw [e1]; exact e2
    · rw [e1]; exact e2)
  obtain ⟨cellV, g1, g3, ⟨kC, hkC⟩, hasg⟩ := hany
  obtain ⟨kA, comp, k1, k2, k3, -⟩ := (C.2.2.2.2.2.1.1.2 3 _ (atys_at (γ := γ) (t := 3) rfl)).2
  obtain ⟨kE, hkE, -⟩ := Vm.findClass_spec k3
  refine W.aast C.1 C.2.1 hc (fun q h => by cases h) (fun h => by cases h) k1 k2 rfl hkE ⟨fun z => i1 (Or.inl z), by rw [arrV_size]; exact i2⟩ g1 (fun q h => by rw [h] at g3; cases g3) hkC (hasg _ k3) rfl rfl hdg fun H1 e z oq => ?_
  rw [arrV_store] at e
  have e2 : H1[a]? = some (arrV (γ.2.1 3) n (aCon (.inr (.inr (va_up f i.toNatClampNeg (some v)))))) := by rw [e, ← aCon_updQ]; rfl
  exact kk H1 _ cells slots A (I.set z oq ⟨hb0, ht, e2⟩ hb0)
theorem aCon_cpyI (cs : Cell) (c1 : ClassId) {n0 n1 sp dp n : Nat} (f g : Nat → Int32) (hcs : ∀ j, j < n0 → cs.slots[j]? = some (aCon (.inl f) j)) (hs : sp + n ≤ n0) : (arrV c1 n1 (aCon (.inl g))).storeRun dp (cs.stretch sp n) = arrV c1 n1 (aCon (.inl (va_cpy f g sp dp n))) :=
  va_copiedX (fun z => .int z) cs c1 f g hcs hs
theorem aCon_cpyQ (cs : Cell) (c1 : ClassId) {n0 n1 sp dp n : Nat} (f g : Nat → Option Nat) (hcs : ∀ j, j < n0 → cs.slots[j]? = some (aCon (.inr (.inr f)) j)) (hs : sp + n ≤ n0) : (arrV c1 n1 (aCon (.inr (.inr g)))).storeRun dp (cs.stretch sp n) = arrV c1 n1 (aCon (.inr (.inr (va_cpy f g sp dp n)))) :=
  va_copiedX (fun z => va_rf z) cs c1 f g hcs hs
theorem ok_copy {cis ts : List Nat} {index : Nat} (ha : anyOK cis ts) (hl : Cond.methodLink q.1.cls index arraycopyName ∈ lw_all) (hnat : Cond.native arraycopyName ∈ lw_all) (hsta : Cond.static arraycopyName ∈ lw_all) (hini : Cond.initialized "java/lang/System" ∈ lw_all) (hdg : decode q.2.1 pc = .ok (.invokestatic index, 3)) (hn : pc + 3 = nx) : HpOK γ q pc (o_copy cis ts nx) := by
  intro x k0 d C env ls st h r hr
  obtain ⟨n, dp, a, sp, a0, rest, h', rfl, hst, hcp, rfl⟩ := o_copy_inv hr
  have hst := okR_le hst
  have hst : (rest.map fun v => v.category).sum ≤ 8 := hst
  have hRl := C.2.2.2.2.2.2.2.2.2.1
  have hRf := C.2.2.2.2.2.2.2.2.1
  have hnw : nativeFrameWords "java/lang/System" "arraycopy" 5 ≤ 60 := by decide +kernel
  obtain ⟨b, t, n0, n1, htl, hr0, hr1, hcase⟩ := hcpy_inv hcp
  obtain ⟨s1, s2, s3⟩ := inR_iff hr0
  obtain ⟨d1, d2, d3⟩ := inR_iff hr1
  refine ⟨_, rfl, by rcases hcase with ⟨f, g, -, -, -, -, rfl⟩ | ⟨f, g, -, -, -, -, rfl⟩ <;> exact hLe_set, fun _ _ H locs cells slots A Q I kk => ?_⟩
  subst hn
  rcases hcase with ⟨f, g, ht, hm0, hm1, hfit, rfl⟩ | ⟨f, g, ht, hm0, hm1, hfit, rfl⟩
  · obtain ⟨cs, ty, f1, f2, f3, f4, f5, f6⟩ := arr_at C (I.1.2.2.1 a0 _ hm0)
    obtain ⟨hb1, ht1, hc1⟩ := I.1.2.2.1 a _ hm1
    obtain ⟨hs2, k0', hk0, cm0, hkk0⟩ := f3
    obtain ⟨-, k1, hk1, cm1, hkk1⟩ := (C.2.2.2.2.2.1.1.2 t _ (atys_at f1)).1 n1 (aCon (.inl g))
    intro T hT X
    obtain ⟨vm', X', step⟩ := X.arraycopy C.1 C.2.2.2.1 (C.2.2.2.2.1 _ hl) (C.2.2.2.2.1 _ hnat) (C.2.2.2.2.1 _ hsta) (C.2.2.2.2.1 _ hini) (src := a0) (dst := a) (cs := cs) (cd := arrV (γ.2.1 t) n1 (aCon (.inl g))) (srcPos := sp) (destPos := dp) (n := n) (by rw [hT]; exact f2) (by rw [hT]; exact hc1)
      hs2 (fun _ h => by cases h) f4 (fun h => by cases h) hk0 hk1 hkk0 hkk1 (by rcases ht with rfl | rfl <;> cases f1 <;> rfl) s1 d1 s2
      (by rw [toInt_clamp s1, toInt_clamp s2, f5]; omega)
      (by rw [toInt_clamp d1, toInt_clamp s2, arrV_size]; omega)
      (fun vm₁ hal i hi => by
        have e : cs.slots.getD (sp.toNatClampNeg + i) .null = .int (f (sp.toNatClampNeg + i)) := by
          rw [Array.getD_eq_getD_getElem?, f6 _ (by omega)]
          rfl
        have h9 := List.all_eq_true.mp hfit i (List.mem_range.mpr hi)
        rw [f1] at h9
        rw [e]
        exact ⟨h9, trivial⟩)
      (g := F0 (xm x) pc A (.int n :: .int dp :: .ref a :: .int sp :: .ref a0 :: rest)) rfl (I.2.2.2.2.2.1.trans C.2.2.1.symm) (rest := rest) rfl (by rw [C.2.1]; exact hdg) (by omega) (by show 2 * 0 + _ + _ ≤ _; omega)
    have e1 : copied cs (arrV (γ.2.1 t) n1 (aCon (.inl g))) sp dp n = arrV (γ.2.1 t) n1 (aCon (.inl (va_cpy f g sp.toNatClampNeg dp.toNatClampNeg n.toNatClampNeg))) := aCon_cpyI cs _ f g f6 s3
    rw [e1] at X' step
    have hl9 : a < H.size := (Array.getElem?_eq_some_iff.mp hc1).1
    have hheap : ((T.setVm vm').setCell a (arrV (γ.2.1 t) n1 (aCon (.inl (va_cpy f g sp.toNatClampNeg dp.toNatClampNeg n.toNatClampNeg))))).heap = H.setIfInBounds a (arrV (γ.2.1 t) n1 (aCon (.inl (va_cpy f g sp.toNatClampNeg dp.toNatClampNeg n.toNatClampNeg)))) := by rw [← hT]; rfl
    obtain ⟨t9, a1, b1⟩ := kk _ _ cells slots A (I.cpy (ll := (cs.stretch sp.toNatClampNeg n.toNatClampNeg).zipIdx.map fun q => ⟨a, dp.toNatClampNeg + q.2⟩) (by simp) (fun q hq => by simp [Array.getElem?_setIfInBounds, Ne.symm hq]) ⟨hb1, ht1, by simp [Array.getElem?_setIfInBounds, hl9]⟩ hb1 (fun z hz => by obtain ⟨w, -, hw⟩ := List.mem_map.mp hz; rw [← hw])) _ hheap X'
    exact ⟨t9, step t9 a1, b1⟩
  · subst ht
    obtain ⟨cs, ty, f1, f2, f3, f4, f5, f6⟩ := arr_at C (I.1.2.2.1 a0 _ hm0)
    cases f1
    obtain ⟨hb1, ht1, hc1⟩ := I.1.2.2.1 a _ hm1
    obtain ⟨hs2, k0', hk0, cm0, hkk0⟩ := f3
    obtain ⟨kA, comp, r1, r2, r3, -⟩ := (C.2.2.2.2.2.1.1.2 3 _ (atys_at (γ := γ) (t := 3) rfl)).2
    intro T hT X
    obtain ⟨vm', X', step⟩ := X.arraycopy C.1 C.2.2.2.1 (C.2.2.2.2.1 _ hl) (C.2.2.2.2.1 _ hnat) (C.2.2.2.2.1 _ hsta) (C.2.2.2.2.1 _ hini) (src := a0) (dst := a) (cs := cs) (cd := arrV (γ.2.1 3) n1 (aCon (.inr (.inr g)))) (srcPos := sp) (destPos := dp) (n := n) (by rw [hT]; exact f2) (by rw [hT]; exact hc1)
      hs2 (fun _ h => by cases h) f4 (fun h => by cases h) hk0 r1 hkk0 r2 rfl s1 d1 s2
      (by rw [toInt_clamp s1, toInt_clamp s2, f5]; omega)
      (by rw [toInt_clamp d1, toInt_clamp s2, arrV_size]; omega)
      (fun vm₁ hal i hi => by
        have e : cs.slots.getD (sp.toNatClampNeg + i) .null = va_rf (f (sp.toNatClampNeg + i)) := by
          rw [Array.getD_eq_getD_getElem?, f6 _ (by omega)]
          rfl
        have h9 := List.all_eq_true.mp hfit i (List.mem_range.mpr hi)
        rw [e]
        cases hy : f (sp.toNatClampNeg + i) with
        | none => exact ⟨rfl, trivial⟩
        | some y =>
          rw [hy] at h9
          obtain ⟨cellV, g1, g2, ⟨kC, hkC⟩, hasg⟩ := any_of C ha I.1 h9
          obtain ⟨kE, hkE, -⟩ := Vm.findClass_spec r3
          obtain ⟨kC', hkC', -⟩ := hal.2.2 _ _ hkC
          obtain ⟨kE', hkE', -⟩ := hal.2.2 _ _ hkE
          refine ⟨rfl, cellV, (show T.heap[y]? = some cellV by rw [hT]; exact g1), (fun q h => by rw [h] at g2; cases g2), ⟨kC', hkC'⟩, ?_, ?_⟩
          · exact ⟨kE', hkE'⟩
          · show vm₁.assignable _ _ = true
            rw [hal.assignable]
            exact hasg _ r3)
      (g := F0 (xm x) pc A (.int n :: .int dp :: .ref a :: .int sp :: .ref a0 :: rest)) rfl (I.2.2.2.2.2.1.trans C.2.2.1.symm) (rest := rest) rfl (by rw [C.2.1]; exact hdg) (by omega) (by show 2 * 0 + _ + _ ≤ _; omega)
    have e1 : copied cs (arrV (γ.2.1 3) n1 (aCon (.inr (.inr g)))) sp dp n = arrV (γ.2.1 3) n1 (aCon (.inr (.inr (va_cpy f g sp.toNatClampNeg dp.toNatClampNeg n.toNatClampNeg)))) := aCon_cpyQ cs _ f g f6 s3
    rw [e1] at X' step
    have hl9 : a < H.size := (Array.getElem?_eq_some_iff.mp hc1).1
    have hheap : ((T.setVm vm').setCell a (arrV (γ.2.1 3) n1 (aCon (.inr (.inr (va_cpy f g sp.toNatClampNeg dp.toNatClampNeg n.toNatClampNeg)))))).heap = H.setIfInBounds a (arrV (γ.2.1 3) n1 (aCon (.inr (.inr (va_cpy f g sp.toNatClampNeg dp.toNatClampNeg n.toNatClampNeg))))) := by rw [← hT]; rfl
    obtain ⟨t9, a1, b1⟩ := kk _ _ cells slots A (I.cpy (ll := (cs.stretch sp.toNatClampNeg n.toNatClampNeg).zipIdx.map fun q => ⟨a, dp.toNatClampNeg + q.2⟩) (by simp) (fun q hq => by simp [Array.getElem?_setIfInBounds, Ne.symm hq]) ⟨hb1, ht1, by simp [Array.getElem?_setIfInBounds, hl9]⟩ hb1 (fun z hz => by obtain ⟨w, -, hw⟩ := List.mem_map.mp hz; rw [← hw])) _ hheap X'
    exact ⟨t9, step t9 a1, b1⟩
end
def o_clone (nx : Nat) : AOp := fun _ ls st h => match st with
  | .ref a :: rest => match h.1 a with
    | some (false, .inl (5, n, .inr (.inr f))) => bif okR rest then some (.inl (nx, ls, .ref h.2.1 :: rest, hnew h (true, .inl (5, n, .inr (.inr f))) n)) else none
    | _ => none
  | _ => none
theorem o_clone_inv {nx : Nat} {env : AEnv} {ls : ALs} {st : List Value} {h : AH} {r : ASt ⊕ (AOut × AH)} (hr : o_clone nx env ls st h = some r) : ∃ a rest n f, st = .ref a :: rest ∧ h.1 a = some (false, .inl (5, n, .inr (.inr f))) ∧ okR rest = true ∧ r = .inl (nx, ls, .ref h.2.1 :: rest, hnew h (true, .inl (5, n, .inr (.inr f))) n) := by
  unfold o_clone at hr
  split at hr
  · next a rest =>
    split at hr
    · next n f e =>
      obtain ⟨hb, hz⟩ := bif_inv hr
      exact ⟨a, rest, n, f, rfl, e, hb, (Option.some.inj hz).symm⟩
    · cases hr
  · cases hr
theorem le_clone {nx : Nat} : HpLe (o_clone nx) := by
  intro env ls st h r hr
  obtain ⟨a, rest, n, f, rfl, -, -, rfl⟩ := o_clone_inv hr
  exact ⟨Nat.le_succ _, Nat.le_add_right _ _⟩
/-- Object.getClass() of an array of Objects: the constant i -/
def f_getC (i nx : Nat) : AF := fun ls st h => match st with
  | .ref a :: rest => match h.1 a with
    | some (_, .inl (3, _)) => bif okR rest then some (nx, ls, h.2.2.2 i :: rest) else none
    | _ => none
  | _ => none
/-- instanceof: null isn't; an object of a listed class is -/
def f_inst (cis : List Nat) (nx : Nat) : AF := fun ls st h => match st with
  | .null :: r => some (nx, ls, .int 0 :: r)
  | .ref a :: r => match h.1 a with
    | some (_, .inr (ci, _)) => bif cis.contains ci then some (nx, ls, .int 1 :: r) else none
    | _ => none
  | _ => none
theorem cell_arr {cell : Cell} {cA : ClassId} {n : Nat} {f : Nat → Value} (h1 : cell.cls = cA) (h2 : cell.slots.size = n) (h3 : ∀ j, j < n → cell.slots[j]? = some (f j)) : ({ cls := cell.cls, slots := cell.slots } : Cell) = arrV cA n f := by
  have hs : cell.slots = Array.ofFn (n := n) fun j => f j.val := by
    apply Array.ext
    · simp [h2]
    · intro i g1 g2
      have := h3 i (by omega)
      rw [Array.getElem?_eq_getElem g1] at this
      rw [Option.some.inj this]
      simp
  show ({ cls := cell.cls, slots := cell.slots, vm := .none } : Cell) = { cls := cA, slots := Array.ofFn (n := n) fun j => f j.val, vm := .none }
  rw [h1, hs]
section
variable {γ : AG} {q : AMi} {pc nx : Nat}
abbrev cloneN (C : String) : MethodName := ⟨C, "clone", "()Ljava/lang/Object;"⟩
theorem ok_clone {index : Nat} (hl : Cond.methodLink q.1.cls index (cloneN "[LFavourTown$Fact;") ∈ lw_all) (hsm : Cond.sameMethod "[LFavourTown$Fact;" "java/lang/Object" "clone" "()Ljava/lang/Object;" ∈ lw_all) (hnat : Cond.native (cloneN "java/lang/Object") ∈ lw_all) (hins : Cond.instanceMethod (cloneN "java/lang/Object") ∈ lw_all) (hsel : Cond.selects "[LFavourTown$Fact;" (cloneN "[LFavourTown$Fact;") (cloneN "java/lang/Object") ∈ lw_all) (hcl : Cond.castable "[LFavourTown$Fact;" "java/lang/Cloneable" ∈ lw_tbl)
    (hdg : decode q.2.1 pc = .ok (.invokevirtual index, 3)) (hn : pc + 3 = nx) : HpOK γ q pc (o_clone nx) := by
  intro x k0 d C env ls st h r hr
  obtain ⟨a, rest, n, f, rfl, hm, hst, rfl⟩ := o_clone_inv hr
  have hst := okR_le hst
  have hst : (rest.map fun v => v.category).sum ≤ 8 := hst
  have hRl := C.2.2.2.2.2.2.2.2.2.1
  have hRf := C.2.2.2.2.2.2.2.2.1
  refine ⟨_, rfl, ⟨Nat.le_succ _, Nat.le_add_right _ _⟩, fun b1 b2 H locs cells slots A Q I kk => ?_⟩
  subst hn
  have b1 : h.2.1 + 1 ≤ (xs x).heap.size + x.2.2.2.1.cells := b1
  have b2 : h.2.2.1 + n ≤ k0 + x.2.2.2.1.slots := b2
  have e1 := I.1.1
  have e2 := I.2.2.1
  have e3 := I.2.2.2.1
  have e4 : h.2.1 = H.size := e1
  obtain ⟨hlt, cell, ty, g1, g2, g3, g4, g5, g6, g7, -⟩ := I.1.2.2.1 a _ hm
  cases g1
  have hcls := g7 rfl
  obtain ⟨c0, t0', f1, f2, f3⟩ := Cond.castable_spec (va_Nw.use (A := x.2.2.2.2.2.2.1) rfl (C.2.2.2.2.2.1.2.1 _ hcl rfl))
  cases hcls.symm.trans f1
  have hca : cell.cls = γ.2.1 5 := by
    obtain ⟨kA, comp, k1, k2, k3, k4⟩ := (C.2.2.2.2.2.1.1.2 5 _ (atys_at (γ := γ) (t := 5) rfl)).2
    exact Option.some.inj (hcls.symm.trans k4)
  have hcellE := cell_arr hca g5 g6
  intro T hT X
  have hcellT : T.heap[a]? = some cell := by rw [hT]; exact g2
  obtain ⟨hob, kA, hkA, comp, hkind⟩ := State.isArrayOf_alike X.warmed.alike g3
  obtain ⟨-, kS, hkS, compS, hkindS⟩ := g3
  obtain ⟨vm', X', st1⟩ := X.cloneArray C.1 C.2.2.2.1 (C.2.2.2.2.1 _ hl) (C.2.2.2.2.1 _ hsm) (C.2.2.2.2.1 _ hnat) (C.2.2.2.2.1 _ hins) (C.2.2.2.2.1 _ hsel) (a := a) (cell := cell) hcellT hob g4 hcls f2 f3
    (fun i v hv => by
      have hk' : T.vm.classes[cell.cls]? = some kA := hkA
      have hi : i < n := Nat.lt_of_lt_of_eq (Array.getElem?_eq_some_iff.mp hv).1 g5
      rw [g6 i hi] at hv
      cases hv
      have hfit : fits (.object "FavourTown$Fact") (aCon (.inr (.inr f)) i) = true := by show fits _ (va_rf (f i)) = true; cases f i <;> rfl
      simpa [State.fitsSlot, State.slotType?, hk', hkind] using hfit)
    (g := F0 (xm x) pc A (.ref a :: rest)) rfl (I.2.2.2.2.2.1.trans C.2.2.1.symm) rfl (by rw [C.2.1]; exact hdg) (by omega) (by show 2 * 0 + _ + 14 ≤ _; omega) (by omega) (by rw [g5]; show slots + n ≤ _; omega) (hloader := Vm.clonesLoader_of_array hkS hkindS)
  rw [hcellE, g5] at X'
  have K := kk (H.push (arrV (γ.2.1 5) n (aCon (.inr (.inr f))))) locs (cells + 1) (slots + n) A (I.new (by rw [Array.size_push]) (fun q hq => by rw [Array.getElem?_push, if_neg (Nat.ne_of_lt hq)]) ⟨I.1.2.1, (by decide : 5 < tyT.length), by rw [Array.getElem?_push_size]⟩)
  dsimp only at K
  rw [e4] at K
  obtain ⟨t, a1, a2⟩ := K ((T.setVm vm').pushCell (arrV (γ.2.1 5) n (aCon (.inr (.inr f))))) (by rw [← hT]; rfl) X'
  refine ⟨t, st1 t ?_, a2⟩
  rw [hcellE, hT]
  exact a1
theorem ok_getC {i index : Nat} {n1 n2 : String} (hk : γ.2.2.2.2.2[i]? = some ("[Ljava/lang/Object;", n1, n2, 1)) (hl : Cond.methodLink q.1.cls index ⟨"java/lang/Object", "getClass", "()Ljava/lang/Class;"⟩ ∈ lw_all) (hdc : Cond.declares ⟨"java/lang/Object", "getClass", "()Ljava/lang/Class;"⟩ ∈ lw_tbl) (hsel : Cond.selects "[Ljava/lang/Object;" ⟨"java/lang/Object", "getClass", "()Ljava/lang/Class;"⟩ ⟨"java/lang/Object", "getClass", "()Ljava/lang/Class;"⟩ ∈ lw_all) (hins : Cond.instanceMethod ⟨"java/lang/Object", "getClass", "()Ljava/lang/Class;"⟩ ∈ lw_all) (hnat : Cond.native ⟨"java/lang/Object", "getClass", "()Ljava/lang/Class;"⟩ ∈ lw_all)
    (hdg : decode q.2.1 pc = .ok (.invokevirtual index, 3)) (hn : pc + 3 = nx) : PfOK γ q pc (f_getC i nx) := by
  intro x k0 d C ls st h r hr H locs cells slots A Q I kk
  unfold f_getC at hr
  split at hr
  · next a rest =>
    split at hr
    · next b k e =>
      obtain ⟨hb, hz⟩ := bif_inv hr
      cases hz
      have hst := okR_le hb
      have hst : (rest.map fun v => v.category).sum ≤ 8 := hst
      have hRl := C.2.2.2.2.2.2.2.2.2.1
      have hRf := C.2.2.2.2.2.2.2.2.1
      subst hn
      obtain ⟨mi, h1, h2⟩ := C.2.2.2.2.2.1.2.2.2.2.2.2 i _ hk
      have kk := kk A I.2.2.2.2
      rw [I.1.2.2.2.1, h1] at kk
      have hrc : ∃ cell : Cell, H[a]? = some cell ∧ cell.vm.isStatics = false ∧ (xs x).vm.findClass "[Ljava/lang/Object;" = some cell.cls := by
        have hat := I.1.2.2.1 a _ e
        cases b with
        | true =>
          obtain ⟨kA, comp, k1, k2, k3, k4⟩ := (C.2.2.2.2.2.1.1.2 3 _ (atys_at (γ := γ) (t := 3) rfl)).2
          exact ⟨_, hat.2.2, rfl, k4⟩
        | false =>
          obtain ⟨-, cell, ty, g1, g2, g3, g4, g5, g6, -, g8⟩ := hat
          refine ⟨cell, g2, ?_, g8 rfl⟩
          cases hv : cell.vm <;> first | rfl | exact absurd hv (g3.1 _)
      exact va_getC C.1 C.2.1 (C.2.2.1.trans I.2.2.2.2.2.1.symm) C.2.2.2.1 (C.2.2.2.2.1 _ hl) (va_Nw.use rfl (C.2.2.2.2.2.1.2.1 _ hdc rfl)) (C.2.2.2.2.1 _ hsel) (C.2.2.2.2.1 _ hins) (C.2.2.2.2.1 _ hnat) h2 hrc (by omega) (by omega) hdg kk
    · cases hr
  · cases hr
theorem ok_inst {cis : List Nat} {index : Nat} {nm : String} (hw : Cond.classLink q.1.cls index nm ∈ lw_all) (hc : ∀ ci ∈ cis, ∃ r, clT[ci]? = some r ∧ r.1 = nm) (hdg : decode q.2.1 pc = .ok (.instanceof index, 3)) (hn : pc + 3 = nx) : PfOK γ q pc (f_inst cis nx) := by
  intro x k0 d C ls st h r hr H locs cells slots A Q I kk
  unfold f_inst at hr
  split at hr
  · cases hr
    subst hn
    exact lv_instN C.1 C.2.1 hdg (kk A I.2.2.2.2)
  · next a rest =>
    split at hr
    · next bb ci fs e =>
      obtain ⟨hb, hz⟩ := bif_inv hr
      cases hz
      subst hn
      obtain ⟨r', hr', hcst⟩ := hc ci (List.contains_iff_mem.mp hb)
      exact va_instS C.1 C.2.1 C.2.2.2.1 (C.2.2.2.2.1 _ hw) (by rw [← hcst]; exact (C.2.2.2.2.2.1.1.1 ci _ hr').2) (recv_at C I.1 (b := a) (ci := ci) (by unfold hci; rw [e]) (by rw [clR_T hr']; exact congrArg some hcst)) hdg (kk A I.2.2.2.2)
    · cases hr
  · cases hr
end
/-! clone of an array of bytes -/
def o_cloneB (nx : Nat) : AOp := fun _ ls st h => match st with
  | .ref a :: rest => match h.1 a with
    | some (true, .inl (1, n, .inl f)) => bif okR rest && fitAll 1 f 0 n then some (.inl (nx, ls, .ref h.2.1 :: rest, hnew h (true, .inl (1, n, .inl f)) n)) else none
    | _ => none
  | _ => none
theorem o_cloneB_inv {nx : Nat} {env : AEnv} {ls : ALs} {st : List Value} {h : AH} {r : ASt ⊕ (AOut × AH)} (hr : o_cloneB nx env ls st h = some r) : ∃ a rest n f, st = .ref a :: rest ∧ h.1 a = some (true, .inl (1, n, .inl f)) ∧ okR rest = true ∧ fitAll 1 f 0 n = true ∧ r = .inl (nx, ls, .ref h.2.1 :: rest, hnew h (true, .inl (1, n, .inl f)) n) := by
  unfold o_cloneB at hr
  split at hr
  · next a rest =>
    split at hr
    · next n f e =>
      obtain ⟨hb, hz⟩ := bif_inv hr
      obtain ⟨hb1, hb2⟩ := bsplit hb
      exact ⟨a, rest, n, f, rfl, e, hb1, hb2, (Option.some.inj hz).symm⟩
    · cases hr
  · cases hr
theorem le_cloneB {nx : Nat} : HpLe (o_cloneB nx) := by
  intro env ls st h r hr
  obtain ⟨a, rest, n, f, rfl, -, -, -, rfl⟩ := o_cloneB_inv hr
  exact ⟨Nat.le_succ _, Nat.le_add_right _ _⟩
theorem ok_cloneB {γ : AG} {q : AMi} {pc nx index : Nat} (hl : Cond.methodLink q.1.cls index (cloneN "[B") ∈ lw_all) (hsm : Cond.sameMethod "[B" "java/lang/Object" "clone" "()Ljava/lang/Object;" ∈ lw_all) (hnat : Cond.native (cloneN "java/lang/Object") ∈ lw_all) (hins : Cond.instanceMethod (cloneN "java/lang/Object") ∈ lw_all) (hsel : Cond.selects "[B" (cloneN "[B") (cloneN "java/lang/Object") ∈ lw_all) (hcl : Cond.castable "[B" "java/lang/Cloneable" ∈ lw_tbl)
    (hdg : decode q.2.1 pc = .ok (.invokevirtual index, 3)) (hn : pc + 3 = nx) : HpOK γ q pc (o_cloneB nx) := by
  intro x k0 d C env ls st h r hr
  obtain ⟨a, rest, n, f, rfl, hm, hst, hfit, rfl⟩ := o_cloneB_inv hr
  have hst := okR_le hst
  have hst : (rest.map fun v => v.category).sum ≤ 8 := hst
  have hRl := C.2.2.2.2.2.2.2.2.2.1
  have hRf := C.2.2.2.2.2.2.2.2.1
  refine ⟨_, rfl, ⟨Nat.le_succ _, Nat.le_add_right _ _⟩, fun b1 b2 H locs cells slots A Q I kk => ?_⟩
  subst hn
  have b1 : h.2.1 + 1 ≤ (xs x).heap.size + x.2.2.2.1.cells := b1
  have b2 : h.2.2.1 + n ≤ k0 + x.2.2.2.1.slots := b2
  have e1 := I.1.1
  have e2 := I.2.2.1
  have e3 := I.2.2.2.1
  have e4 : h.2.1 = H.size := e1
  obtain ⟨hb0, ht, g2⟩ := I.1.2.2.1 a _ hm
  have hcls : (xs x).vm.findClass "[B" = some (γ.2.1 1) := (C.2.2.2.2.2.1.1.2 1 _ (atys_at (γ := γ) (t := 1) rfl)).2
  obtain ⟨c0, t0', f1, f2, f3⟩ := Cond.castable_spec (va_Nw.use (A := x.2.2.2.2.2.2.1) rfl (C.2.2.2.2.2.1.2.1 _ hcl rfl))
  cases hcls.symm.trans f1
  have g3 := (C.2.2.2.2.2.1.1.2 1 _ (atys_at (γ := γ) (t := 1) rfl)).1 n (aCon (.inl f))
  have hcellE := cell_arr (cell := arrV (γ.2.1 1) n (aCon (.inl f))) (cA := γ.2.1 1) (n := n) (f := aCon (.inl f)) rfl (arrV_size _ _ _) (fun j hj => arrV_read _ _ hj)
  intro T hT X
  have hcellT : T.heap[a]? = some (arrV (γ.2.1 1) n (aCon (.inl f))) := by rw [hT]; exact g2
  obtain ⟨hob, kA, hkA, comp, hkind⟩ := State.isArrayOf_alike X.warmed.alike g3
  obtain ⟨-, kS, hkS, compS, hkindS⟩ := g3
  obtain ⟨vm', X', st1⟩ := X.cloneArray C.1 C.2.2.2.1 (C.2.2.2.2.1 _ hl) (C.2.2.2.2.1 _ hsm) (C.2.2.2.2.1 _ hnat) (C.2.2.2.2.1 _ hins) (C.2.2.2.2.1 _ hsel) (a := a) (cell := arrV (γ.2.1 1) n (aCon (.inl f))) hcellT hob (by intro e; cases e) hcls f2 f3
    (fun i v hv => by
      have hk' : T.vm.classes[γ.2.1 1]? = some kA := hkA
      have hi : i < n := Nat.lt_of_lt_of_eq (Array.getElem?_eq_some_iff.mp hv).1 (arrV_size _ _ _)
      rw [arrV_read _ _ hi] at hv
      cases hv
      have h9 := List.all_eq_true.mp hfit i (List.mem_range.mpr hi)
      have hfit : fits .byte (aCon (.inl f) i) = true := by
        have h8 : fits .byte (.int (f (0 + i))) = true := h9
        rw [Nat.zero_add] at h8
        exact h8
      show State.fitsSlot T (γ.2.1 1) .none i _ = true
      simpa [State.fitsSlot, State.slotType?, hk', hkind] using hfit)
    (g := F0 (xm x) pc A (.ref a :: rest)) rfl (I.2.2.2.2.2.1.trans C.2.2.1.symm) rfl (by rw [C.2.1]; exact hdg) (by omega) (by show 2 * 0 + _ + 14 ≤ _; omega) (by omega) (by rw [arrV_size]; omega) (hloader := Vm.clonesLoader_of_array hkS hkindS)
  rw [hcellE, arrV_size] at X'
  have K := kk (H.push (arrV (γ.2.1 1) n (aCon (.inl f)))) locs (cells + 1) (slots + n) A (I.new (by rw [Array.size_push]) (fun q hq => by rw [Array.getElem?_push, if_neg (Nat.ne_of_lt hq)]) ⟨I.1.2.1, (by decide : 1 < tyT.length), by rw [Array.getElem?_push_size]⟩)
  dsimp only at K
  rw [e4] at K
  obtain ⟨t, a1, a2⟩ := K ((T.setVm vm').pushCell (arrV (γ.2.1 1) n (aCon (.inl f)))) (by rw [← hT]; rfl) X'
  refine ⟨t, st1 t ?_, a2⟩
  rw [hcellE, hT]
  exact a1
/-! Object's constructor, Math.min and Math.max: the kit's own rows -/
def f_objI (nx : Nat) : AF := fun ls st _ => match st with
  | .ref _ :: r => bif okR r then some (nx, ls, r) else none
  | _ => none
theorem ok_objI {γ : AG} {q : AMi} {pc nx index : Nat} (h1 : Cond.methodLink q.1.cls index Lib.objectInit ∈ lw_all) (h2 : Cond.instanceMethod Lib.objectInit ∈ lw_all) (h3 : Cond.code Lib.objectInit ⟨#[0xb1]⟩ 1 none ∈ lw_all) (hdg : decode q.2.1 pc = .ok (.invokespecial index, 3)) (hn : pc + 3 = nx) : PfOK γ q pc (f_objI nx) := by
  intro x k0 d C ls st h r hr H locs cells slots A Q I kk
  unfold f_objI at hr
  split at hr
  · next a rest =>
    obtain ⟨hb, hz⟩ := bif_inv hr
    cases hz
    have hst := okR_le hb
    have hst : (rest.map fun v => v.category).sum ≤ 8 := hst
    have hRl := C.2.2.2.2.2.2.2.2.2.1
    have hRf := C.2.2.2.2.2.2.2.2.1
    subst hn
    exact W.objInit C.1 C.2.1 C.2.2.2.1 (C.2.2.2.2.1 _ h1) (C.2.2.2.2.1 _ h2) (C.2.2.2.2.1 _ h3) rfl (I.2.2.2.2.2.1.trans C.2.2.1.symm) rfl hdg (by omega) (by show 2 * 0 + _ + 12 ≤ _; omega) (kk A I.2.2.2.2)
  · cases hr
def o_mth (g : Int32 → Int32 → Int32) (nx : Nat) : AOp := fun _ ls st h => match st with
  | .int y :: .int x :: r => bif okR r then some (.inl (nx, ls, .int (g x y) :: r, h)) else none
  | _ => none
theorem o_mth_inv {g : Int32 → Int32 → Int32} {nx : Nat} {env : AEnv} {ls : ALs} {st : List Value} {h : AH} {r : ASt ⊕ (AOut × AH)} (hr : o_mth g nx env ls st h = some r) : ∃ y x rest, st = .int y :: .int x :: rest ∧ okR rest = true ∧ r = .inl (nx, ls, .int (g x y) :: rest, h) := by
  unfold o_mth at hr
  split at hr
  · next y x rest =>
    obtain ⟨hb, hz⟩ := bif_inv hr
    exact ⟨y, x, rest, rfl, hb, (Option.some.inj hz).symm⟩
  · cases hr
theorem le_mth {g : Int32 → Int32 → Int32} {nx : Nat} : HpLe (o_mth g nx) := by
  intro env ls st h r hr
  obtain ⟨y, x, rest, rfl, -, rfl⟩ := o_mth_inv hr
  exact hLe.rf
theorem ok_mmin {γ : AG} {q : AMi} {pc nx index : Nat} (h1 : Cond.methodLink q.1.cls index Lib.Math.min.name ∈ lw_all) (h2 : Cond.static Lib.Math.min.name ∈ lw_all) (h3 : Cond.initialized "java/lang/Math" ∈ lw_all) (h4 : Cond.code Lib.Math.min.name Lib.Math.min.code 2 (some .int) ∈ lw_all) (hdg : decode q.2.1 pc = .ok (.invokestatic index, 3)) (hn : pc + 3 = nx) : HpOK γ q pc (o_mth (fun x y => if y < x then y else x) nx) := by
  intro x k0 d C env ls st h r hr
  obtain ⟨y, z, rest, rfl, hst, rfl⟩ := o_mth_inv hr
  have hst := okR_le hst
  have hst : (rest.map fun v => v.category).sum ≤ 8 := hst
  have hRl := C.2.2.2.2.2.2.2.2.2.1
  have hRf := C.2.2.2.2.2.2.2.2.1
  refine ⟨_, rfl, hLe.rf, fun b1 b2 H locs cells slots A Q I kk => ?_⟩
  have b1 : h.2.1 ≤ (xs x).heap.size + x.2.2.2.1.cells := b1
  have b2 : h.2.2.1 ≤ k0 + x.2.2.2.1.slots := b2
  have e1 : h.2.1 = H.size := I.1.1
  have e2 := I.2.2.1
  have e3 : slots + k0 = h.2.2.1 := I.2.2.2.1
  subst hn
  exact va_mmin C.1 C.2.1 (C.2.2.1.trans I.2.2.2.2.2.1.symm) C.2.2.2.1 (C.2.2.2.2.1 _ h1) (C.2.2.2.2.1 _ h2) (C.2.2.2.2.1 _ h3) (C.2.2.2.2.1 _ h4) (by omega) (by omega) (by omega) (by omega) hdg (kk H locs cells slots A I)
theorem ok_mmax {γ : AG} {q : AMi} {pc nx index : Nat} (h1 : Cond.methodLink q.1.cls index Lib.Math.max.name ∈ lw_all) (h2 : Cond.static Lib.Math.max.name ∈ lw_all) (h3 : Cond.initialized "java/lang/Math" ∈ lw_all) (h4 : Cond.code Lib.Math.max.name Lib.Math.max.code 2 (some .int) ∈ lw_all) (hdg : decode q.2.1 pc = .ok (.invokestatic index, 3)) (hn : pc + 3 = nx) : HpOK γ q pc (o_mth (fun x y => if x < y then y else x) nx) := by
  intro x k0 d C env ls st h r hr
  obtain ⟨y, z, rest, rfl, hst, rfl⟩ := o_mth_inv hr
  have hst := okR_le hst
  have hst : (rest.map fun v => v.category).sum ≤ 8 := hst
  have hRl := C.2.2.2.2.2.2.2.2.2.1
  have hRf := C.2.2.2.2.2.2.2.2.1
  refine ⟨_, rfl, hLe.rf, fun b1 b2 H locs cells slots A Q I kk => ?_⟩
  have b1 : h.2.1 ≤ (xs x).heap.size + x.2.2.2.1.cells := b1
  have b2 : h.2.2.1 ≤ k0 + x.2.2.2.1.slots := b2
  have e1 : h.2.1 = H.size := I.1.1
  have e2 := I.2.2.1
  have e3 : slots + k0 = h.2.2.1 := I.2.2.2.1
  subst hn
  exact va_mmax C.1 C.2.1 (C.2.2.1.trans I.2.2.2.2.2.1.symm) C.2.2.2.1 (C.2.2.2.2.1 _ h1) (C.2.2.2.2.1 _ h2) (C.2.2.2.2.1 _ h3) (C.2.2.2.2.1 _ h4) (by omega) (by omega) (by omega) (by omega) hdg (kk H locs cells slots A I)
