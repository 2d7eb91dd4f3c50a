/-! ===== the model: loops that change the row ===== -/
def sm (M : MS) (m : Nat → Int32) : MS := (M.1, fun a => if a = 0 then m else M.2 a)
theorem ua_0 {M : MS} {i : Nat} {v : Int32} : ua M 0 i v = sm M (uf (M.2 0) i v) := rfl
theorem sm_1 {M : MS} {m : Nat → Int32} : (sm M m).1 = M.1 := rfl
theorem sm_2 {M : MS} {m : Nat → Int32} : (sm M m).2 0 = m := rfl
theorem sm_sm {M : MS} {m n : Nat → Int32} : sm (sm M m) n = sm M n := by
  refine Prod.ext rfl (funext fun a => ?_)
  show (if a = 0 then n else if a = 0 then m else M.2 a) = if a = 0 then n else M.2 a
  by_cases h : a = 0
  · rw [if_pos h, if_pos h]
  · rw [if_neg h, if_neg h, if_neg h]
theorem us_sm {M : MS} {m : Nat → Int32} {k : Nat} {v : Int32} : us (sm M m) k v = sm (us M k v) m := rfl
theorem sm_us1 {M : MS} {m : Nat → Int32} {k : Nat} {v : Int32} : (us M k v).2 = M.2 := rfl
theorem sm_ne {M : MS} {m : Nat → Int32} {j : Nat} (h : (j == 0) = false) : (sm M m).2 j = M.2 j := if_neg (by simpa using h)
theorem sm_id {M : MS} : sm M (M.2 0) = M := by
  refine Prod.ext rfl (funext fun a => ?_)
  show (if a = 0 then M.2 0 else M.2 a) = M.2 a
  by_cases h : a = 0
  · rw [if_pos h, h]
  · rw [if_neg h]
def itr {σ : Type} (f : Nat → σ → σ) (s : σ) : Nat → σ
  | 0 => s
  | n + 1 => f n (itr f s n)
theorem itr_inv {σ : Type} {f : Nat → σ → σ} {s : σ} {P : σ → Prop} (h : ∀ k t, P t → P (f k t)) (h0 : P s) : ∀ n, P (itr f s n) := by
  intro n
  induction n with
  | zero => exact h0
  | succ n ih => exact h n _ ih
def sp_debt (m : Nat → Int32) (F : Nat) (p : Int32) : Int32 := sumN (fun k => if m (140 + 20 * k) = p ∧ ¬ m (140 + 20 * k + 2) = -1 then m (140 + 20 * k + 1) else 0) F
theorem S_debtOf {d am F : Nat} {p : Int32} {M : MS} {h : AH} (hF : M.2 0 3 = nI F) (h40 : F ≤ 40) : exec tTab (d + 2) K_X7_debtOf [.ref am, .int p] (put am M h) = some (.inl (some (.int (sp_debt (M.2 0) F p))), put am M h) := by
  simp (disch := omega) only [e_X7_debtOf, r_X7_debtOf_0, r_X7_debtOf_9, r_X7_debtOf_11, r_X7_debtOf_53, r_X7_debtOf_14, r_X7_debtOf_21, r_X7_debtOf_44, r_X7_debtOf_25, r_X7_debtOf_31, r_X7_debtOf_35, r_X7_debtOf_41]
  refine loopUp (α := Unit) (fun k _ => R_X7_debtOf (d + 1) 4 [some (.ref am), some (.int p), some (.int (sp_debt (M.2 0) k p)), some (.int (nI k))] [] (put am M h)) F ?_ ?_ ()
  · intro k hk _
    refine ⟨(), ?_⟩
    rw [q_X7_debtOf_4]
    simp (disch := omega) only [e_X7_debtOf, r_X7_debtOf_0, r_X7_debtOf_9, r_X7_debtOf_11, r_X7_debtOf_53, r_X7_debtOf_14, r_X7_debtOf_21, r_X7_debtOf_44, r_X7_debtOf_25, r_X7_debtOf_31, r_X7_debtOf_35, r_X7_debtOf_41, aK_ret, aK_thr, Option.bind_some, Option.toList_some, Option.toList_none, List.cons_append, List.nil_append, List.set_cons_zero, List.set_cons_succ, lk1, hci_put, put_2, us_2, ua_1, us_eq, us_ne, ua_eq, ua_ne, uf_eq, uf_ne, us_neD, ua_neD, ua_0, sm_1, sm_2, sm_sm, us_sm, sm_us1, sm_ne, nI_add, pk_mul, add_n0, ret_bI, bI_0, Nat.add_zero, nI10, nI00, ne_eq, eq_self, Bool.true_eq_false, Bool.false_eq_true, cond_true, cond_false, not_false_eq_true, not_true_eq_false, ite_true, ite_false, if_true, if_false, reduceIte, mf_0, mf_1, mf_2, mf_3, mf_4, mf_5, mf_6, mf_7, mf_8, mf_9, mf_10, mf_11, mf_12, mf_13, mf_14, mf_15, mf_16, mf_17, mf_18, mf_19, mf_20, mf_21, mf_22, mf_23, mf_24, mf_25, mf_26, mf_27, mf_28, mp_0, mp_3, mp_6, mp_7, mp_8, mp_9, mp_10, mp_11, mp_12, mp_14, mp_15, mp_16, mp_17, mp_25, mp_26, mp_28, mr_0, mr_1, mr_2, mr_3, mr_4, mr_5, mr_6, mr_7, mr_8, mr_9, mr_10, mr_11, mr_12, mw_0, mw_1, mw_2, mw_3, mw_4, mw_5, mw_6, mw_7, mw_8, mw_9, mw_10, mw_11, mw_12, S_of, hF, nI_leI, Nat.not_le.mpr hk, sumN, sp_debt]
    by_cases hc : M.2 0 (140 + 20 * k) = p <;> by_cases hd : M.2 0 (140 + 20 * k + 2) = -1 <;> simp [hc, hd, nI_z]
  · intro _
    rw [q_X7_debtOf_4]
    simp (disch := omega) only [e_X7_debtOf, r_X7_debtOf_0, r_X7_debtOf_9, r_X7_debtOf_11, r_X7_debtOf_53, r_X7_debtOf_14, r_X7_debtOf_21, r_X7_debtOf_44, r_X7_debtOf_25, r_X7_debtOf_31, r_X7_debtOf_35, r_X7_debtOf_41, aK_ret, aK_thr, Option.bind_some, Option.toList_some, Option.toList_none, List.cons_append, List.nil_append, List.set_cons_zero, List.set_cons_succ, lk1, hci_put, put_2, us_2, ua_1, us_eq, us_ne, ua_eq, ua_ne, uf_eq, uf_ne, us_neD, ua_neD, ua_0, sm_1, sm_2, sm_sm, us_sm, sm_us1, sm_ne, nI_add, pk_mul, add_n0, ret_bI, bI_0, Nat.add_zero, nI10, nI00, ne_eq, eq_self, Bool.true_eq_false, Bool.false_eq_true, cond_true, cond_false, not_false_eq_true, not_true_eq_false, ite_true, ite_false, if_true, if_false, reduceIte, mf_0, mf_1, mf_2, mf_3, mf_4, mf_5, mf_6, mf_7, mf_8, mf_9, mf_10, mf_11, mf_12, mf_13, mf_14, mf_15, mf_16, mf_17, mf_18, mf_19, mf_20, mf_21, mf_22, mf_23, mf_24, mf_25, mf_26, mf_27, mf_28, mp_0, mp_3, mp_6, mp_7, mp_8, mp_9, mp_10, mp_11, mp_12, mp_14, mp_15, mp_16, mp_17, mp_25, mp_26, mp_28, mr_0, mr_1, mr_2, mr_3, mr_4, mr_5, mr_6, mr_7, mr_8, mr_9, mr_10, mr_11, mr_12, mw_0, mw_1, mw_2, mw_3, mw_4, mw_5, mw_6, mw_7, mw_8, mw_9, mw_10, mw_11, mw_12, hF, nI_leI, Nat.le_refl]
def sp_owes (m : Nat → Int32) (F : Nat) (a b : Int32) : Int32 := sumN (fun k => if m (140 + 20 * k) = a ∧ m (140 + 20 * k + 2) = b then m (140 + 20 * k + 1) else 0) F
theorem S_owesOf {d am F : Nat} {p q : Int32} {M : MS} {h : AH} (hF : M.2 0 3 = nI F) (h40 : F ≤ 40) : exec tTab (d + 2) K_X7_owesOf [.ref am, .int p, .int q] (put am M h) = some (.inl (some (.int (sp_owes (M.2 0) F p q))), put am M h) := by
  simp (disch := omega) only [e_X7_owesOf, r_X7_owesOf_0, r_X7_owesOf_11, r_X7_owesOf_13, r_X7_owesOf_58, r_X7_owesOf_16, r_X7_owesOf_24, r_X7_owesOf_49, r_X7_owesOf_28, r_X7_owesOf_35, r_X7_owesOf_39, r_X7_owesOf_46]
  refine loopUp (α := Unit) (fun k _ => R_X7_owesOf (d + 1) 5 [some (.ref am), some (.int p), some (.int q), some (.int (sp_owes (M.2 0) k p q)), some (.int (nI k))] [] (put am M h)) F ?_ ?_ ()
  · intro k hk _
    refine ⟨(), ?_⟩
    rw [q_X7_owesOf_5]
    simp (disch := omega) only [e_X7_owesOf, r_X7_owesOf_0, r_X7_owesOf_11, r_X7_owesOf_13, r_X7_owesOf_58, r_X7_owesOf_16, r_X7_owesOf_24, r_X7_owesOf_49, r_X7_owesOf_28, r_X7_owesOf_35, r_X7_owesOf_39, r_X7_owesOf_46, aK_ret, aK_thr, Option.bind_some, Option.toList_some, Option.toList_none, List.cons_append, List.nil_append, List.set_cons_zero, List.set_cons_succ, lk1, hci_put, put_2, us_2, ua_1, us_eq, us_ne, ua_eq, ua_ne, uf_eq, uf_ne, us_neD, ua_neD, ua_0, sm_1, sm_2, sm_sm, us_sm, sm_us1, sm_ne, nI_add, pk_mul, add_n0, ret_bI, bI_0, Nat.add_zero, nI10, nI00, ne_eq, eq_self, Bool.true_eq_false, Bool.false_eq_true, cond_true, cond_false, not_false_eq_true, not_true_eq_false, ite_true, ite_false, if_true, if_false, reduceIte, mf_0, mf_1, mf_2, mf_3, mf_4, mf_5, mf_6, mf_7, mf_8, mf_9, mf_10, mf_11, mf_12, mf_13, mf_14, mf_15, mf_16, mf_17, mf_18, mf_19, mf_20, mf_21, mf_22, mf_23, mf_24, mf_25, mf_26, mf_27, mf_28, mp_0, mp_3, mp_6, mp_7, mp_8, mp_9, mp_10, mp_11, mp_12, mp_14, mp_15, mp_16, mp_17, mp_25, mp_26, mp_28, mr_0, mr_1, mr_2, mr_3, mr_4, mr_5, mr_6, mr_7, mr_8, mr_9, mr_10, mr_11, mr_12, mw_0, mw_1, mw_2, mw_3, mw_4, mw_5, mw_6, mw_7, mw_8, mw_9, mw_10, mw_11, mw_12, S_of, hF, nI_leI, Nat.not_le.mpr hk, sumN, sp_owes]
    by_cases hc : M.2 0 (140 + 20 * k) = p <;> by_cases hd : M.2 0 (140 + 20 * k + 2) = q <;> simp [hc, hd, nI_z]
  · intro _
    rw [q_X7_owesOf_5]
    simp (disch := omega) only [e_X7_owesOf, r_X7_owesOf_0, r_X7_owesOf_11, r_X7_owesOf_13, r_X7_owesOf_58, r_X7_owesOf_16, r_X7_owesOf_24, r_X7_owesOf_49, r_X7_owesOf_28, r_X7_owesOf_35, r_X7_owesOf_39, r_X7_owesOf_46, aK_ret, aK_thr, Option.bind_some, Option.toList_some, Option.toList_none, List.cons_append, List.nil_append, List.set_cons_zero, List.set_cons_succ, lk1, hci_put, put_2, us_2, ua_1, us_eq, us_ne, ua_eq, ua_ne, uf_eq, uf_ne, us_neD, ua_neD, ua_0, sm_1, sm_2, sm_sm, us_sm, sm_us1, sm_ne, nI_add, pk_mul, add_n0, ret_bI, bI_0, Nat.add_zero, nI10, nI00, ne_eq, eq_self, Bool.true_eq_false, Bool.false_eq_true, cond_true, cond_false, not_false_eq_true, not_true_eq_false, ite_true, ite_false, if_true, if_false, reduceIte, mf_0, mf_1, mf_2, mf_3, mf_4, mf_5, mf_6, mf_7, mf_8, mf_9, mf_10, mf_11, mf_12, mf_13, mf_14, mf_15, mf_16, mf_17, mf_18, mf_19, mf_20, mf_21, mf_22, mf_23, mf_24, mf_25, mf_26, mf_27, mf_28, mp_0, mp_3, mp_6, mp_7, mp_8, mp_9, mp_10, mp_11, mp_12, mp_14, mp_15, mp_16, mp_17, mp_25, mp_26, mp_28, mr_0, mr_1, mr_2, mr_3, mr_4, mr_5, mr_6, mr_7, mr_8, mr_9, mr_10, mr_11, mr_12, mw_0, mw_1, mw_2, mw_3, mw_4, mw_5, mw_6, mw_7, mw_8, mw_9, mw_10, mw_11, mw_12, hF, nI_leI, Nat.le_refl]
def sp_bits (x : Int32) : Nat → Int32 := fun n => sumN (fun k => (x >>> (nI k &&& 31)) &&& nI 1) n
theorem S_bits {d : Nat} {x : Int32} {h : AH} : exec tTab (d + 1) K_X7_bits [.int x] h = some (.inl (some (.int (sp_bits x 12))), h) := by
  simp (disch := omega) only [e_X7_bits, r_X7_bits_0, r_X7_bits_24, r_X7_bits_10]
  refine loopUp (α := Unit) (fun k _ => R_X7_bits d 4 [some (.int x), some (.int (sp_bits x k)), some (.int (nI k))] [] h) 12 ?_ ?_ ()
  · intro k hk _
    refine ⟨(), ?_⟩
    rw [q_X7_bits_4]
    simp (disch := omega) only [e_X7_bits, r_X7_bits_0, r_X7_bits_24, r_X7_bits_10, aK_ret, aK_thr, Option.bind_some, Option.toList_some, Option.toList_none, List.cons_append, List.nil_append, List.set_cons_zero, List.set_cons_succ, lk1, hci_put, put_2, us_2, ua_1, us_eq, us_ne, ua_eq, ua_ne, uf_eq, uf_ne, us_neD, ua_neD, ua_0, sm_1, sm_2, sm_sm, us_sm, sm_us1, sm_ne, nI_add, pk_mul, add_n0, ret_bI, bI_0, Nat.add_zero, nI10, nI00, ne_eq, eq_self, Bool.true_eq_false, Bool.false_eq_true, cond_true, cond_false, not_false_eq_true, not_true_eq_false, ite_true, ite_false, if_true, if_false, reduceIte, mf_0, mf_1, mf_2, mf_3, mf_4, mf_5, mf_6, mf_7, mf_8, mf_9, mf_10, mf_11, mf_12, mf_13, mf_14, mf_15, mf_16, mf_17, mf_18, mf_19, mf_20, mf_21, mf_22, mf_23, mf_24, mf_25, mf_26, mf_27, mf_28, mp_0, mp_3, mp_6, mp_7, mp_8, mp_9, mp_10, mp_11, mp_12, mp_14, mp_15, mp_16, mp_17, mp_25, mp_26, mp_28, mr_0, mr_1, mr_2, mr_3, mr_4, mr_5, mr_6, mr_7, mr_8, mr_9, mr_10, mr_11, mr_12, mw_0, mw_1, mw_2, mw_3, mw_4, mw_5, mw_6, mw_7, mw_8, mw_9, mw_10, mw_11, mw_12, nI_leI, Nat.not_le.mpr hk, sumN, sp_bits]
  · intro _
    rw [q_X7_bits_4]
    simp (disch := omega) only [e_X7_bits, r_X7_bits_0, r_X7_bits_24, r_X7_bits_10, aK_ret, aK_thr, Option.bind_some, Option.toList_some, Option.toList_none, List.cons_append, List.nil_append, List.set_cons_zero, List.set_cons_succ, lk1, hci_put, put_2, us_2, ua_1, us_eq, us_ne, ua_eq, ua_ne, uf_eq, uf_ne, us_neD, ua_neD, ua_0, sm_1, sm_2, sm_sm, us_sm, sm_us1, sm_ne, nI_add, pk_mul, add_n0, ret_bI, bI_0, Nat.add_zero, nI10, nI00, ne_eq, eq_self, Bool.true_eq_false, Bool.false_eq_true, cond_true, cond_false, not_false_eq_true, not_true_eq_false, ite_true, ite_false, if_true, if_false, reduceIte, mf_0, mf_1, mf_2, mf_3, mf_4, mf_5, mf_6, mf_7, mf_8, mf_9, mf_10, mf_11, mf_12, mf_13, mf_14, mf_15, mf_16, mf_17, mf_18, mf_19, mf_20, mf_21, mf_22, mf_23, mf_24, mf_25, mf_26, mf_27, mf_28, mp_0, mp_3, mp_6, mp_7, mp_8, mp_9, mp_10, mp_11, mp_12, mp_14, mp_15, mp_16, mp_17, mp_25, mp_26, mp_28, mr_0, mr_1, mr_2, mr_3, mr_4, mr_5, mr_6, mr_7, mr_8, mr_9, mr_10, mr_11, mr_12, mw_0, mw_1, mw_2, mw_3, mw_4, mw_5, mw_6, mw_7, mw_8, mw_9, mw_10, mw_11, mw_12, nI_leI, Nat.le_refl]
def sp_near (m : Nat → Int32) (a : Nat) (b : Int32) : Bool := decide ((m (10 + 3 * a + 2) >>> (b &&& 31)) &&& nI 1 = nI 1)
theorem S_isNearTo {d am a : Nat} {b : Int32} {M : MS} {h : AH} (ha : a < 12) : exec tTab (d + 1) K_X7_isNearTo [.ref am, .int (nI a), .int b] (put am M h) = some (.inl (some (.int (bI (sp_near (M.2 0) a b)))), put am M h) := by
  simp (disch := omega) only [e_X7_isNearTo, r_X7_isNearTo_0, r_X7_isNearTo_4, r_X7_isNearTo_13, r_X7_isNearTo_25, r_X7_isNearTo_21, aK_ret, aK_thr, Option.bind_some, Option.toList_some, Option.toList_none, List.cons_append, List.nil_append, List.set_cons_zero, List.set_cons_succ, lk1, hci_put, put_2, us_2, ua_1, us_eq, us_ne, ua_eq, ua_ne, uf_eq, uf_ne, us_neD, ua_neD, ua_0, sm_1, sm_2, sm_sm, us_sm, sm_us1, sm_ne, nI_add, pk_mul, add_n0, ret_bI, bI_0, Nat.add_zero, nI10, nI00, ne_eq, eq_self, Bool.true_eq_false, Bool.false_eq_true, cond_true, cond_false, not_false_eq_true, not_true_eq_false, ite_true, ite_false, if_true, if_false, reduceIte, mf_0, mf_1, mf_2, mf_3, mf_4, mf_5, mf_6, mf_7, mf_8, mf_9, mf_10, mf_11, mf_12, mf_13, mf_14, mf_15, mf_16, mf_17, mf_18, mf_19, mf_20, mf_21, mf_22, mf_23, mf_24, mf_25, mf_26, mf_27, mf_28, mp_0, mp_3, mp_6, mp_7, mp_8, mp_9, mp_10, mp_11, mp_12, mp_14, mp_15, mp_16, mp_17, mp_25, mp_26, mp_28, mr_0, mr_1, mr_2, mr_3, mr_4, mr_5, mr_6, mr_7, mr_8, mr_9, mr_10, mr_11, mr_12, mw_0, mw_1, mw_2, mw_3, mw_4, mw_5, mw_6, mw_7, mw_8, mw_9, mw_10, mw_11, mw_12, sp_near]
  by_cases hc : (M.2 0 (10 + 3 * a + 2) >>> (b &&& 31)) &&& nI 1 = nI 1 <;> simp [hc, bI]
def st_goOn (k : Nat) (s : (Nat → Int32) × Int32) : (Nat → Int32) × Int32 := if s.1 (140 + 20 * k + 2) = -1 ∨ s.1 (140 + 20 * k + 4) = -1 ∨ s.1 6 < s.1 (140 + 20 * k + 4) then s else (uf s.1 (140 + 20 * k + 2) (-1), s.2 + nI 1)
def sp_goOn (m : Nat → Int32) (n : Int32) (F : Nat) : (Nat → Int32) × Int32 := itr st_goOn (uf m 6 (m 6 + n), nI 0) F
theorem goOn_3 {m : Nat → Int32} {n : Int32} {k : Nat} : (sp_goOn m n k).1 3 = m 3 := by
  refine itr_inv (P := fun t : (Nat → Int32) × Int32 => t.1 3 = m 3) ?_ (show uf m 6 (m 6 + n) 3 = m 3 from uf_ne (by decide)) k
  intro k t ht
  simp only [st_goOn]
  split
  · exact ht
  · exact (uf_ne (by omega)).trans ht
theorem S_goOn {d am F : Nat} {n : Int32} {M : MS} {h : AH} (hF : M.2 0 3 = nI F) (h40 : F ≤ 40) : exec tTab (d + 2) K_X7_goOn [.ref am, .int n] (put am M h) = some (.inl (some (.int (sp_goOn (M.2 0) n F).2)), put am (sm M (sp_goOn (M.2 0) n F).1) h) := by
  simp (disch := omega) only [e_X7_goOn, r_X7_goOn_0, r_X7_goOn_4, r_X7_goOn_8, r_X7_goOn_11, r_X7_goOn_20, r_X7_goOn_22, r_X7_goOn_80, r_X7_goOn_25, r_X7_goOn_31, r_X7_goOn_74, r_X7_goOn_35, r_X7_goOn_41, r_X7_goOn_45, r_X7_goOn_51, r_X7_goOn_55, r_X7_goOn_58, r_X7_goOn_64, r_X7_goOn_61, r_X7_goOn_71, aK_ret, aK_thr, Option.bind_some, Option.toList_some, Option.toList_none, List.cons_append, List.nil_append, List.set_cons_zero, List.set_cons_succ, lk1, hci_put, put_2, us_2, ua_1, us_eq, us_ne, ua_eq, ua_ne, uf_eq, uf_ne, us_neD, ua_neD, ua_0, sm_1, sm_2, sm_sm, us_sm, sm_us1, sm_ne, nI_add, pk_mul, add_n0, ret_bI, bI_0, Nat.add_zero, nI10, nI00, ne_eq, eq_self, Bool.true_eq_false, Bool.false_eq_true, cond_true, cond_false, not_false_eq_true, not_true_eq_false, ite_true, ite_false, if_true, if_false, reduceIte, mf_0, mf_1, mf_2, mf_3, mf_4, mf_5, mf_6, mf_7, mf_8, mf_9, mf_10, mf_11, mf_12, mf_13, mf_14, mf_15, mf_16, mf_17, mf_18, mf_19, mf_20, mf_21, mf_22, mf_23, mf_24, mf_25, mf_26, mf_27, mf_28, mp_0, mp_3, mp_6, mp_7, mp_8, mp_9, mp_10, mp_11, mp_12, mp_14, mp_15, mp_16, mp_17, mp_25, mp_26, mp_28, mr_0, mr_1, mr_2, mr_3, mr_4, mr_5, mr_6, mr_7, mr_8, mr_9, mr_10, mr_11, mr_12, mw_0, mw_1, mw_2, mw_3, mw_4, mw_5, mw_6, mw_7, mw_8, mw_9, mw_10, mw_11, mw_12]
  refine loopUp (α := Unit) (fun k _ => R_X7_goOn (d + 1) 15 [some (.ref am), some (.int n), some (.int (sp_goOn (M.2 0) n k).2), some (.int (nI k))] [] (put am (sm M (sp_goOn (M.2 0) n k).1) h)) F ?_ ?_ ()
  · intro k hk _
    refine ⟨(), ?_⟩
    have e3 := @goOn_3 (M.2 0) n k
    have es : sp_goOn (M.2 0) n (k + 1) = st_goOn k (sp_goOn (M.2 0) n k) := rfl
    generalize sp_goOn (M.2 0) n k = s at e3 es
    obtain ⟨m, c⟩ := s
    dsimp only at e3
    rw [q_X7_goOn_15, es]
    simp (disch := omega) only [e_X7_goOn, r_X7_goOn_0, r_X7_goOn_4, r_X7_goOn_8, r_X7_goOn_11, r_X7_goOn_20, r_X7_goOn_22, r_X7_goOn_80, r_X7_goOn_25, r_X7_goOn_31, r_X7_goOn_74, r_X7_goOn_35, r_X7_goOn_41, r_X7_goOn_45, r_X7_goOn_51, r_X7_goOn_55, r_X7_goOn_58, r_X7_goOn_64, r_X7_goOn_61, r_X7_goOn_71, aK_ret, aK_thr, Option.bind_some, Option.toList_some, Option.toList_none, List.cons_append, List.nil_append, List.set_cons_zero, List.set_cons_succ, lk1, hci_put, put_2, us_2, ua_1, us_eq, us_ne, ua_eq, ua_ne, uf_eq, uf_ne, us_neD, ua_neD, ua_0, sm_1, sm_2, sm_sm, us_sm, sm_us1, sm_ne, nI_add, pk_mul, add_n0, ret_bI, bI_0, Nat.add_zero, nI10, nI00, ne_eq, eq_self, Bool.true_eq_false, Bool.false_eq_true, cond_true, cond_false, not_false_eq_true, not_true_eq_false, ite_true, ite_false, if_true, if_false, reduceIte, mf_0, mf_1, mf_2, mf_3, mf_4, mf_5, mf_6, mf_7, mf_8, mf_9, mf_10, mf_11, mf_12, mf_13, mf_14, mf_15, mf_16, mf_17, mf_18, mf_19, mf_20, mf_21, mf_22, mf_23, mf_24, mf_25, mf_26, mf_27, mf_28, mp_0, mp_3, mp_6, mp_7, mp_8, mp_9, mp_10, mp_11, mp_12, mp_14, mp_15, mp_16, mp_17, mp_25, mp_26, mp_28, mr_0, mr_1, mr_2, mr_3, mr_4, mr_5, mr_6, mr_7, mr_8, mr_9, mr_10, mr_11, mr_12, mw_0, mw_1, mw_2, mw_3, mw_4, mw_5, mw_6, mw_7, mw_8, mw_9, mw_10, mw_11, mw_12, S_of, S_sets, e3, hF, nI_leI, Nat.not_le.mpr hk, st_goOn]
    by_cases h1 : m (140 + 20 * k + 2) = -1
    · simp [h1]
    · by_cases h2 : m (140 + 20 * k + 4) = -1
      · simp [h2]
      · by_cases h3 : m 6 < m (140 + 20 * k + 4)
        · simp [h1, h2, h3, Int32.not_le.mpr h3]
        · simp [h1, h2, h3, Int32.not_lt.mp h3]
  · intro _
    rw [q_X7_goOn_15]
    simp (disch := omega) only [e_X7_goOn, r_X7_goOn_0, r_X7_goOn_4, r_X7_goOn_8, r_X7_goOn_11, r_X7_goOn_20, r_X7_goOn_22, r_X7_goOn_80, r_X7_goOn_25, r_X7_goOn_31, r_X7_goOn_74, r_X7_goOn_35, r_X7_goOn_41, r_X7_goOn_45, r_X7_goOn_51, r_X7_goOn_55, r_X7_goOn_58, r_X7_goOn_64, r_X7_goOn_61, r_X7_goOn_71, aK_ret, aK_thr, Option.bind_some, Option.toList_some, Option.toList_none, List.cons_append, List.nil_append, List.set_cons_zero, List.set_cons_succ, lk1, hci_put, put_2, us_2, ua_1, us_eq, us_ne, ua_eq, ua_ne, uf_eq, uf_ne, us_neD, ua_neD, ua_0, sm_1, sm_2, sm_sm, us_sm, sm_us1, sm_ne, nI_add, pk_mul, add_n0, ret_bI, bI_0, Nat.add_zero, nI10, nI00, ne_eq, eq_self, Bool.true_eq_false, Bool.false_eq_true, cond_true, cond_false, not_false_eq_true, not_true_eq_false, ite_true, ite_false, if_true, if_false, reduceIte, mf_0, mf_1, mf_2, mf_3, mf_4, mf_5, mf_6, mf_7, mf_8, mf_9, mf_10, mf_11, mf_12, mf_13, mf_14, mf_15, mf_16, mf_17, mf_18, mf_19, mf_20, mf_21, mf_22, mf_23, mf_24, mf_25, mf_26, mf_27, mf_28, mp_0, mp_3, mp_6, mp_7, mp_8, mp_9, mp_10, mp_11, mp_12, mp_14, mp_15, mp_16, mp_17, mp_25, mp_26, mp_28, mr_0, mr_1, mr_2, mr_3, mr_4, mr_5, mr_6, mr_7, mr_8, mr_9, mr_10, mr_11, mr_12, mw_0, mw_1, mw_2, mw_3, mw_4, mw_5, mw_6, mw_7, mw_8, mw_9, mw_10, mw_11, mw_12, goOn_3, hF, nI_leI, Nat.le_refl]
