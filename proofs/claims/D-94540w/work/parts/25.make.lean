/-! ===== SOUNDNESS: what makes cells; casts; ends ===== -/
def dfOK (ci : Nat) (fs : List Value) : Bool := match clT[ci]? with
  | some r => Nat.beq fs.length r.2.2 && (List.range r.2.2).all fun k => match parseFieldDescriptor (r.2.1 k).2.2.1 with
    | some ty => decide (defaultValue ty = vp_V fs k)
    | none => false
  | none => false
theorem le_new {ci : Nat} {fs : List Value} {nx : Nat} : HpLe (o_new ci fs nx) := by
  intro env ls st h r hr
  cases hr
  exact ⟨Nat.le_succ _, Nat.le_add_right _ _⟩
theorem o_newa_inv {t : Nat} {z : (Nat → Int32) ⊕ ((Nat → Int64) ⊕ (Nat → Option Nat))} {nx : Nat} {env : AEnv} {ls : ALs} {st : List Value} {h : AH} {r : ASt ⊕ (AOut × AH)} (hr : o_newa t z nx env ls st h = some r) : ∃ n rest, st = .int n :: rest ∧ hin n 65537 = true ∧ r = .inl (nx, ls, .ref h.2.1 :: rest, hnew h (true, .inl (t, n.toNatClampNeg, z)) n.toNatClampNeg) := by
  unfold o_newa at hr
  split at hr
  · next n rest =>
    cases hk : hin n 65537 with
    | false => rw [hk] at hr; cases hr
    | true => rw [hk] at hr; exact ⟨n, rest, rfl, hk, (Option.some.inj hr).symm⟩
  · cases hr
theorem le_newa {t : Nat} {z : (Nat → Int32) ⊕ ((Nat → Int64) ⊕ (Nat → Option Nat))} {nx : Nat} : HpLe (o_newa t z nx) := by
  intro env ls st h r hr
  obtain ⟨n, rest, rfl, hn, rfl⟩ := o_newa_inv hr
  exact ⟨Nat.le_succ _, Nat.le_add_right _ _⟩
/-- a two-dimensional array of ints: n rows of k -/
def mnewC (h : AH) (n k : Nat) : AH := (fun x => if x = h.2.1 then some (true, .inl (4, n, .inr (.inr (fun j => if j < n then some (h.2.1 + 1 + j) else none)))) else if h.2.1 < x ∧ x < h.2.1 + 1 + n then some (true, .inl (0, k, .inl (fun _ => 0))) else h.1 x, h.2.1 + 1 + n, h.2.2.1 + (n + n * k), h.2.2.2)
def o_mnew (nx : Nat) : AOp := fun _ ls st h => match st with
  | .int k :: .int n :: r => bif hin k 1025 && hin n 1025 then some (.inl (nx, ls, .ref h.2.1 :: r, mnewC h n.toNatClampNeg k.toNatClampNeg)) else none
  | _ => none
theorem o_mnew_inv {nx : Nat} {env : AEnv} {ls : ALs} {st : List Value} {h : AH} {r : ASt ⊕ (AOut × AH)} (hr : o_mnew nx env ls st h = some r) : ∃ k n rest, st = .int k :: .int n :: rest ∧ hin k 1025 = true ∧ hin n 1025 = true ∧ r = .inl (nx, ls, .ref h.2.1 :: rest, mnewC h n.toNatClampNeg k.toNatClampNeg) := by
  unfold o_mnew at hr
  split at hr
  · next k n rest =>
    cases hk : hin k 1025 && hin n 1025 with
    | false => rw [hk] at hr; cases hr
    | true =>
      rw [hk] at hr
      obtain ⟨h1, h2⟩ := bsplit hk
      exact ⟨k, n, rest, rfl, h1, h2, (Option.some.inj hr).symm⟩
  · cases hr
theorem hLe_mnew {h : AH} {n k : Nat} : hLe h (mnewC h n k) := ⟨by show h.2.1 ≤ h.2.1 + 1 + n; omega, Nat.le_add_right _ _⟩
theorem le_mnew {nx : Nat} : HpLe (o_mnew nx) := by
  intro env ls st h r hr
  obtain ⟨k, n, rest, rfl, h1, h2, rfl⟩ := o_mnew_inv hr
  exact hLe_mnew
theorem o_make_inv {ci nx : Nat} {env : AEnv} {ls : ALs} {st : List Value} {h : AH} {r : ASt ⊕ (AOut × AH)} (hr : o_make ci nx env ls st h = some r) : (st.map Value.category).sum ≤ 8 ∧ r = .inl (nx, ls, .ref h.2.1 :: st, hnew h (true, .inr (ci, [])) 6) := by
  unfold o_make at hr
  cases hk : Nat.ble (st.map Value.category).sum 8 with
  | false => rw [hk] at hr; cases hr
  | true => rw [hk] at hr; exact ⟨Nat.le_of_ble_eq_true hk, (Option.some.inj hr).symm⟩
theorem le_make {ci nx : Nat} : HpLe (o_make ci nx) := by
  intro env ls st h r hr
  obtain ⟨h1, rfl⟩ := o_make_inv hr
  exact ⟨Nat.le_succ _, Nat.le_add_right _ _⟩
theorem outer_arr (c : ClassId) (N h0 : Nat) : ∀ i, Jvm.Free.Multi.outerC c N h0 i = arrV c N (fun j => if j < i then .ref (h0 + 1 + j) else .null)
  | 0 => by
    show ({ cls := c, slots := Array.replicate N .null, vm := .none } : Cell) = _
    rw [arrV_new]
    congr 1
  | i + 1 => by
    show (Jvm.Free.Multi.outerC c N h0 i).setSlot i (.ref (h0 + 1 + i)) = _
    rw [outer_arr c N h0 i, arrV_store]
    congr 1
    funext j
    unfold updV
    by_cases h1 : j = i
    · subst h1; simp
    · by_cases h2 : j < i
      · simp [h1, h2, Nat.lt_succ_of_lt h2]
      · simp [h1, h2, show ¬ j < i + 1 by omega]
section
variable {γ : AG} {q : AMi} {pc nx : Nat}
theorem ok_new {ci index : Nat} {fs : List Value} {C0 : String} (hdf : dfOK ci fs = true) (hC : (clT[ci]?).map (fun r => r.1) = some C0) (hl : Cond.classLink q.1.cls index C0 ∈ lw_all) (hins : Cond.instantiable C0 fs.length ∈ lw_all) (hini : Cond.initialized C0 ∈ lw_all) (hdg : decode q.2.1 pc = .ok (.new index, 3)) (hn : pc + 3 = nx) : HpOK γ q pc (o_new ci fs nx) := by
  intro x k0 d C env ls st h r hr
  cases hr
  refine ⟨_, rfl, ⟨Nat.le_succ _, Nat.le_add_right _ _⟩, fun b1 b2 H locs cells slots A Q I kk => ?_⟩
  subst hn
  have b1 : h.2.1 + 1 ≤ (xs x).heap.size + x.2.2.2.1.cells := b1
  have b2 : h.2.2.1 + fs.length ≤ k0 + x.2.2.2.1.slots := b2
  unfold dfOK at hdf
  split at hdf
  · next r hr' =>
    rw [hr'] at hC
    cases hC
    obtain ⟨d1, d2⟩ := bsplit hdf
    have hlen : fs.length = r.2.2 := Nat.eq_of_beq_eq_true d1
    have hKn := C.2.2.2.2.2.1.1.1 ci _ hr'
    obtain ⟨ty0, hty0⟩ := cl_ty _ (List.mem_of_getElem? hr')
    have e1 := I.1.1
    have e2 := I.2.2.1
    have e3 := I.2.2.2.1
    have e4 : h.2.1 = H.size := e1
    refine W.newcK C.1 C.2.1 C.2.2.2.1 (C.2.2.2.2.1 _ hl) (C.2.2.2.2.1 _ hins) (C.2.2.2.2.1 _ hini) rfl hdg (by omega) (by omega) hKn.2.1 rfl fun H1 kC hkC g1 g2 g3 => ?_
    have K := kk H1 locs (cells + 1) (slots + fs.length) A (I.new g2 g3 ⟨I.1.2.1, r, hr', (u_born ty0 C.2.2.2.2.1 (cl_in _ (List.mem_of_getElem? hr')) hKn hkC g1 hty0).to (fun k hk => ?_)⟩)
    · dsimp only at K
      rw [e4] at K
      exact K
    · have := List.all_eq_true.mp d2 k (List.mem_range.mpr hk)
      rw [hty0 k hk] at this
      exact of_decide_eq_true this
  · cases hdf
theorem ok_newa {t : Nat} {atype : ArrayType} {z : (Nat → Int32) ⊕ ((Nat → Int64) ⊕ (Nat → Option Nat))} {ty : FieldType} (hty : newarray.typeOf atype = ty) (ht : tyT[t]? = some ty) (hno : ∀ U cA, va_RA U cA ty → U.vm.findClass ("[" ++ ty.toString) = some cA) (hz : ∀ j, aCon z j = defaultValue ty) (hcb : componentBytes ty ≤ 8) (harr : Cond.arrayClass ty ∈ lw_all) (hdg : decode q.2.1 pc = .ok (.newarray atype, 2)) (hn : pc + 2 = nx) : HpOK γ q pc (o_newa t z nx) := by
  intro x k0 d C env ls st h r hr
  obtain ⟨n, rest, rfl, hi, rfl⟩ := o_newa_inv hr
  refine ⟨_, rfl, ⟨Nat.le_succ _, Nat.le_add_right _ _⟩, fun b1 b2 H locs cells slots A Q I kk => ?_⟩
  subst hn hty
  have b1 : h.2.1 + 1 ≤ (xs x).heap.size + x.2.2.2.1.cells := b1
  have b2 : h.2.2.1 + n.toNatClampNeg ≤ k0 + x.2.2.2.1.slots := b2
  obtain ⟨i1, i2⟩ := hin_iff hi
  have e1 := I.1.1
  have e2 := I.2.2.1
  have e3 := I.2.2.2.1
  have e4 : h.2.1 = H.size := e1
  have hbytes : n.toNatClampNeg * componentBytes (newarray.typeOf atype) ≤ 536870912 := Nat.le_trans (Nat.mul_le_mul (Nat.le_of_lt i2) hcb) (by decide)
  refine va_newaK C.1 C.2.1 (C.2.2.2.2.1 _ harr) rfl hdg rfl (fun z => i1 (Or.inl z)) rfl hbytes (by omega) (by omega) rfl fun H1 cA g1 g2 g3 hAr hNm => ?_
  have hca : cA = γ.2.1 t := Option.some.inj (hNm.symm.trans (hno _ _ (C.2.2.2.2.2.1.1.2 t _ (atys_at ht)).2))
  subst hca
  have K := kk H1 locs (cells + 1) (slots + n.toNatClampNeg) A (I.new g2 g3 ⟨I.1.2.1, (List.getElem?_eq_some_iff.mp ht).1, by rw [g1]; congr 2; funext j; exact (hz j).symm⟩)
  dsimp only at K
  rw [e4] at K
  exact K
theorem ok_anew {index : Nat} (hl : Cond.classLink q.1.cls index "java/lang/Object" ∈ lw_all) (hdg : decode q.2.1 pc = .ok (.anewarray index, 3)) (hn : pc + 3 = nx) : HpOK γ q pc (o_newa 3 (.inr (.inr (fun _ => none))) nx) := by
  intro x k0 d C env ls st h r hr
  obtain ⟨n, rest, rfl, hi, rfl⟩ := o_newa_inv hr
  refine ⟨_, rfl, ⟨Nat.le_succ _, Nat.le_add_right _ _⟩, fun b1 b2 H locs cells slots A Q I kk => ?_⟩
  subst hn
  have b1 : h.2.1 + 1 ≤ (xs x).heap.size + x.2.2.2.1.cells := b1
  have b2 : h.2.2.1 + n.toNatClampNeg ≤ k0 + x.2.2.2.1.slots := b2
  obtain ⟨i1, i2⟩ := hin_iff hi
  have e1 := I.1.1
  have e2 := I.2.2.1
  have e3 := I.2.2.2.1
  have e4 : h.2.1 = H.size := e1
  refine W.anew C.1 C.2.1 C.2.2.2.1 (C.2.2.2.2.1 _ hl) (va_AO.use C.2.2.2.2.2.1.2.2.1) rfl hdg rfl (fun z => i1 (Or.inl z)) (by omega) (by omega) (by omega) fun cA kA comp f1 f2 f3 f4 => ?_
  obtain ⟨kA', comp', g1, g2, g3, g4⟩ := (C.2.2.2.2.2.1.1.2 3 _ (atys_at (γ := γ) (t := 3) rfl)).2
  have hca : cA = γ.2.1 3 := Option.some.inj (f1.symm.trans g4)
  subst hca
  have K := kk (H.push ({ cls := γ.2.1 3, slots := Array.replicate n.toNatClampNeg .null, vm := .none } : Cell)) locs (cells + 1) (slots + n.toNatClampNeg) A (I.new (by rw [Array.size_push]) (fun q hq => by rw [Array.getElem?_push, if_neg (Nat.ne_of_lt hq)]) ⟨I.1.2.1, (by decide : 3 < tyT.length), by rw [Array.getElem?_push_size, arrV_new]; rfl⟩)
  dsimp only at K
  rw [e4] at K
  exact K
theorem aRel.mnew {γ : AG} {U : State} {h : AH} {H H1 : Heap} {n k : Nat} (r : aRel γ U h H) (hz : H1.size = H.size + 1 + n) (ho : ∀ q : Nat, q < H.size → H1[q]? = H[q]?) (h0 : H1[H.size]? = some (arrV (γ.2.1 4) n (fun j => va_rf (if j < n then some (H.size + 1 + j) else none)))) (h1 : ∀ j, j < n → H1[H.size + 1 + j]? = some (arrV (γ.2.1 0) k (fun _ => .int 0))) : aRel γ U (mnewC h n k) H1 := by
  refine ⟨by show h.2.1 + 1 + n = _; rw [hz, r.1], by rw [hz]; exact Nat.le_trans r.2.1 (by omega), fun a' c' h' => ?_, r.2.2.2.1, fun i q hi h0 => va_Z.kept (r.2.2.2.2.1 i q hi h0) (fun a' hl _ => ho a' hl), vx_Zq.kept r.2.2.2.2.2.1 (fun a' hl _ => ho a' hl), vx_Zq.kept r.2.2.2.2.2.2 (fun a' hl _ => ho a' hl)⟩
  unfold mnewC at h'
  dsimp only at h'
  rw [r.1] at h'
  split at h'
  · next e => subst e; cases h'; exact ⟨r.2.1, (by decide : 4 < tyT.length), h0⟩
  · next e =>
    split at h'
    · next e2 =>
      cases h'
      refine ⟨Nat.le_trans r.2.1 (Nat.le_of_lt e2.1), (by decide : 0 < tyT.length), ?_⟩
      have := h1 (a' - (H.size + 1)) (by omega)
      rw [show H.size + 1 + (a' - (H.size + 1)) = a' by omega] at this
      exact this
    · exact (r.2.2.1 a' c' h').kept (ho a' (r.2.2.1 a' c' h').lt)
theorem ok_mnew {index : Nat} (hl : Cond.classLink q.1.cls index "[[I" ∈ lw_all) (hia : Cond.arrayClass .int ∈ lw_all) (hdg : decode q.2.1 pc = .ok (.multianewarray index 2, 4)) (hn : pc + 4 = nx) : HpOK γ q pc (o_mnew nx) := by
  intro x k0 d C env ls st h r hr
  obtain ⟨k, n, rest, rfl, hik, hin', rfl⟩ := o_mnew_inv hr
  refine ⟨_, rfl, hLe_mnew, fun b1 b2 H locs cells slots A Q I kk => ?_⟩
  subst hn
  have b1 : h.2.1 + 1 + n.toNatClampNeg ≤ (xs x).heap.size + x.2.2.2.1.cells := b1
  have b2 : h.2.2.1 + (n.toNatClampNeg + n.toNatClampNeg * k.toNatClampNeg) ≤ k0 + x.2.2.2.1.slots := b2
  obtain ⟨i1, i2⟩ := hin_iff hik
  obtain ⟨j1, j2⟩ := hin_iff hin'
  have e1 := I.1.1
  have e2 := I.2.2.1
  have e3 := I.2.2.2.1
  have e4 : h.2.1 = H.size := e1
  have hover : (Cond.arrayOver (.array .int)).before x.2.2.2.2.2.2.1 (xs x) = true := C.2.2.2.2.2.1.2.2.2.1.1
  intro T hT X
  obtain ⟨vm₁, cA, comp, hW, hfA, hfC, hO, hI, X1, step⟩ := X.multianewarray2F C.1 (own := q.1.cls) (index := index) (ty := .int) C.2.2.2.1 (C.2.2.2.2.1 _ hl) hover (C.2.2.2.2.1 _ hia) (g := F0 (xm x) pc A (.int k :: .int n :: rest)) rfl (by rw [C.2.1]; exact hdg) rfl (fun z => j1 (Or.inl z)) (fun z => i1 (Or.inl z)) (by omega) (by show k.toNatClampNeg * 4 ≤ _; omega) (by omega) rfl rfl (by omega) (by omega)
  have hcA : cA = γ.2.1 4 := Option.some.inj (hfA.symm.trans (C.2.2.2.2.2.1.1.2 4 _ (atys_at (γ := γ) (t := 4) rfl)).2)
  have hcC : comp = γ.2.1 0 := Option.some.inj (hfC.symm.trans (C.2.2.2.2.2.1.1.2 0 _ (atys_at (γ := γ) (t := 0) rfl)).2)
  subst hcA hcC
  have hTs : (T.setVm vm₁).heap = H := hT
  obtain ⟨f1, f2, f3, f4⟩ := Jvm.Free.Multi.fill_facts (T.setVm vm₁) (γ.2.1 4) (γ.2.1 0) n.toNatClampNeg k.toNatClampNeg (defaultValue .int) n.toNatClampNeg
  obtain ⟨o1, o2, o3⟩ := Jvm.Free.Multi.outerC_facts (γ.2.1 4) n.toNatClampNeg (T.setVm vm₁).heap.size n.toNatClampNeg
  have g0 := fun (a : Addr) (ha : a < (T.setVm vm₁).heap.size) => Jvm.Free.Multi.fill_old (T.setVm vm₁) (γ.2.1 4) (γ.2.1 0) n.toNatClampNeg k.toNatClampNeg (defaultValue .int) ha n.toNatClampNeg
  have g1 := Jvm.Free.Multi.fill_inner (T.setVm vm₁) (γ.2.1 4) (γ.2.1 0) n.toNatClampNeg k.toNatClampNeg (defaultValue .int) n.toNatClampNeg
  generalize Jvm.Free.Multi.fill (T.setVm vm₁) (γ.2.1 4) (γ.2.1 0) n.toNatClampNeg k.toNatClampNeg (defaultValue .int) n.toNatClampNeg = T1 at f1 f2 g0 g1 X1 step
  rw [hTs] at f1 f2 g0 g1
  have K := kk T1.heap locs (cells + 1 + n.toNatClampNeg) (slots + n.toNatClampNeg + n.toNatClampNeg * k.toNatClampNeg) A ⟨aRel.mnew I.1 f1 (fun a ha => g0 a ha) (by rw [f2, outer_arr]; congr 2; funext j; by_cases hj : j < n.toNatClampNeg <;> simp [hj, va_rf]) (fun j hj => by rw [g1 j hj]; exact congrArg some (arrV_new _ _ _)),
    ⟨Nat.le_trans I.2.1.1 (by omega), fun z h1 h2 => (g0 z (Nat.lt_of_lt_of_le h1 I.2.1.1)).trans (I.2.1.2.1 z h1 h2), I.2.1.2.2⟩, by omega, by show _ = h.2.2.1 + (n.toNatClampNeg + n.toNatClampNeg * k.toNatClampNeg); omega, I.2.2.2.2⟩
  obtain ⟨t, a1, b1⟩ := K T1 rfl X1
  refine ⟨t, step _ ?_, b1⟩
  rw [hT, ← e4]
  exact a1
end
