/-! ===== tempers: lines, texts ===== -/
/-- a line of a temper: what it says, if its condition holds -/
def pTL (x : Nat → Int32) (n a : Nat) : Res (Option Bool) :=
  let take := nxw x n a w_take
  bif !take && !nxw x n a w_refuse then .inr (sk x n a)
  else
    let a1 := bif take then nxa x n a w_take else nxa x n a w_refuse
    bif nxw x n a1 w_if then (match (pLev x n 6).2 (nxa x n a1 w_if) with
      | .inr q => .inr q
      | .inl (a2, d) => .inl (a2, fun F => bif d F then some take else none))
    else .inl (sk x n a1, fun _ => some take)
def encS (s : Option Bool) : Int32 := match s with
  | none => -1
  | some b => bI b
theorem bIm {b : Bool} : (bI b = -1) = False := by cases b <;> exact eq_false (by decide)
theorem pTL_adv {x : Nat → Int32} {n : Nat} : Adv n (pTL x n) := by
  intro a a1 d ha h
  unfold pTL at h
  dsimp only at h
  have fin : ∀ (b : Bool) a0, a < a0 → a0 ≤ n → (bif nxw x n a0 w_if then (match (pLev x n 6).2 (nxa x n a0 w_if) with
      | .inr q => .inr q
      | .inl (a2, d) => .inl (a2, fun F => bif d F then some b else none))
    else .inl (sk x n a0, fun _ => some b) : Res (Option Bool)) = .inl (a1, d) → a < a1 ∧ a1 ≤ n := by
    intro b a0 h1 h2 h
    cases hi : nxw x n a0 w_if with
    | true =>
      rw [hi] at h
      dsimp only [cond_true] at h
      have h3 := nxw_adv h2 hi
      cases hp : (pLev x n 6).2 (nxa x n a0 w_if) with
      | inr q => rw [hp] at h; cases h
      | inl z =>
        rw [hp] at h
        cases h
        have h4 := (pLev_adv 6).2 _ _ _ h3.2 hp
        omega
    | false =>
      rw [hi] at h
      cases h
      have h3 := sk_ge (x := x) (n := n) (a := a0)
      have h4 := sk_le (x := x) h2
      omega
  cases ht : nxw x n a w_take with
  | true =>
    rw [ht] at h
    have h1 := nxw_adv ha ht
    have h0 : 0 < w_take.length := by decide
    exact fin true _ (by omega) h1.2 h
  | false =>
    cases hr : nxw x n a w_refuse with
    | true =>
      rw [ht, hr] at h
      have h1 := nxw_adv ha hr
      have h0 : 0 < w_refuse.length := by decide
      exact fin false _ (by omega) h1.2 h
    | false => rw [ht, hr] at h; cases h
def Lres (am n : Nat) (M : MS) (h : AH) (F : FV) (s : Option Bool) (r : Res (Option Bool)) (e : Option (AOut × AH)) : Prop := match r with
  | .inl z => e = some (.inl none, put am (us (us M 17 (encS (s.or (z.2 F)))) 9 (nI z.1)) h)
  | .inr q => ∃ a' : Nat, q ≤ n ∧ a' ≤ n + 8 ∧ e = some (.inl none, put am (us (us M 10 (nI q)) 9 (nI a')) h)
theorem S_temperLine {d am n : Nat} {x : Nat → Int32} {M : MS} {h : AH} {F : FV} {s : Option Bool} (hP : PM M x n 0 F) (hK : KS h am) (hs : M.1 17 = encS s) {a : Nat} (ha : a ≤ n) : Lres am n M h F s (pTL x n a) (exec tTab (d + 30) K_X7_temperLine [.ref am] (put am (us M 9 (nI a)) h)) := by
  have hL := hP.1
  have hf := hP.2.1
  have h8 := hL.1
  have h400 := hL.2.1
  have hb := sk_le (x := x) ha
  obtain ⟨a0, k0, s0⟩ := hK.2 (59, w_take) (by decide)
  have g0 := S_has0 (d := d + 24) hL hK.1 s0 (by decide) ha
  obtain ⟨a1, k1, s1⟩ := hK.2 (60, w_refuse) (by decide)
  have g1 := S_ask (d := d + 24) (i := 0) hL hK.1 s1 (by decide) ha
  obtain ⟨a2, k2, s2⟩ := hK.2 (61, w_if) (by decide)
  have fin : ∀ (is take : Bool) (v : Int32), R_X7_temperLine (d + 29) 55 [some (.ref am), some (.int (bI take)), some (.int (bI is))] [.int (-1)] (put am (us M 9 v) h) = some (.inl none, put am (us (us M 17 (encS (s.or (bif is then some take else none)))) 9 v) h) := by
    intro is take v
    cases is with
    | false =>
      simp (disch := first | omega | decide) only [r_X7_temperLine_55, r_X7_temperLine_59, r_X7_temperLine_84, aK_ret, aK_thr, Option.bind_some, Option.toList_some, Option.toList_none, List.cons_append, List.nil_append, List.set_cons_zero, List.set_cons_succ, lk1, hci_put, put_2, us_2, ua_1, us_eq, us_ne, ua_eq, ua_ne, uf_eq, uf_ne, us_neD, ua_neD, ua_0, sm_1, sm_2, sm_sm, us_sm, sm_us1, sm_ne, nI_add, pk_mul, add_n0, ret_bI, bI_0, Nat.add_zero, nI10, nI00, ne_eq, eq_self, Bool.true_eq_false, Bool.false_eq_true, cond_true, cond_false, not_false_eq_true, not_true_eq_false, ite_true, ite_false, if_true, if_false, reduceIte, mf_0, mf_1, mf_2, mf_3, mf_4, mf_5, mf_6, mf_7, mf_8, mf_9, mf_10, mf_11, mf_12, mf_13, mf_14, mf_15, mf_16, mf_17, mf_18, mf_19, mf_20, mf_21, mf_22, mf_23, mf_24, mf_25, mf_26, mf_27, mf_28, mp_0, mp_3, mp_6, mp_7, mp_8, mp_9, mp_10, mp_11, mp_12, mp_14, mp_15, mp_16, mp_17, mp_25, mp_26, mp_28, mr_0, mr_1, mr_2, mr_3, mr_4, mr_5, mr_6, mr_7, mr_8, mr_9, mr_10, mr_11, mr_12, mw_0, mw_1, mw_2, mw_3, mw_4, mw_5, mw_6, mw_7, mw_8, mw_9, mw_10, mw_11, mw_12, Option.or_none, us_id hs]
    | true =>
      cases s with
      | none =>
        have hs : M.1 17 = -1 := hs
        cases take <;> simp (disch := first | omega | decide) only [r_X7_temperLine_55, r_X7_temperLine_59, r_X7_temperLine_63, r_X7_temperLine_67, r_X7_temperLine_71, r_X7_temperLine_76, r_X7_temperLine_80, r_X7_temperLine_84, aK_ret, aK_thr, Option.bind_some, Option.toList_some, Option.toList_none, List.cons_append, List.nil_append, List.set_cons_zero, List.set_cons_succ, lk1, hci_put, put_2, us_2, ua_1, us_eq, us_ne, ua_eq, ua_ne, uf_eq, uf_ne, us_neD, ua_neD, ua_0, sm_1, sm_2, sm_sm, us_sm, sm_us1, sm_ne, nI_add, pk_mul, add_n0, ret_bI, bI_0, Nat.add_zero, nI10, nI00, ne_eq, eq_self, Bool.true_eq_false, Bool.false_eq_true, cond_true, cond_false, not_false_eq_true, not_true_eq_false, ite_true, ite_false, if_true, if_false, reduceIte, mf_0, mf_1, mf_2, mf_3, mf_4, mf_5, mf_6, mf_7, mf_8, mf_9, mf_10, mf_11, mf_12, mf_13, mf_14, mf_15, mf_16, mf_17, mf_18, mf_19, mf_20, mf_21, mf_22, mf_23, mf_24, mf_25, mf_26, mf_27, mf_28, mp_0, mp_3, mp_6, mp_7, mp_8, mp_9, mp_10, mp_11, mp_12, mp_14, mp_15, mp_16, mp_17, mp_25, mp_26, mp_28, mr_0, mr_1, mr_2, mr_3, mr_4, mr_5, mr_6, mr_7, mr_8, mr_9, mr_10, mr_11, mr_12, mw_0, mw_1, mw_2, mw_3, mw_4, mw_5, mw_6, mw_7, mw_8, mw_9, mw_10, mw_11, mw_12, hs, us9_co, Option.none_or] <;> rfl
      | some b =>
        have hs2 : M.1 17 = bI b := hs
        simp (disch := first | omega | decide) only [r_X7_temperLine_55, r_X7_temperLine_59, r_X7_temperLine_63, r_X7_temperLine_67, r_X7_temperLine_84, aK_ret, aK_thr, Option.bind_some, Option.toList_some, Option.toList_none, List.cons_append, List.nil_append, List.set_cons_zero, List.set_cons_succ, lk1, hci_put, put_2, us_2, ua_1, us_eq, us_ne, ua_eq, ua_ne, uf_eq, uf_ne, us_neD, ua_neD, ua_0, sm_1, sm_2, sm_sm, us_sm, sm_us1, sm_ne, nI_add, pk_mul, add_n0, ret_bI, bI_0, Nat.add_zero, nI10, nI00, ne_eq, eq_self, Bool.true_eq_false, Bool.false_eq_true, cond_true, cond_false, not_false_eq_true, not_true_eq_false, ite_true, ite_false, if_true, if_false, reduceIte, mf_0, mf_1, mf_2, mf_3, mf_4, mf_5, mf_6, mf_7, mf_8, mf_9, mf_10, mf_11, mf_12, mf_13, mf_14, mf_15, mf_16, mf_17, mf_18, mf_19, mf_20, mf_21, mf_22, mf_23, mf_24, mf_25, mf_26, mf_27, mf_28, mp_0, mp_3, mp_6, mp_7, mp_8, mp_9, mp_10, mp_11, mp_12, mp_14, mp_15, mp_16, mp_17, mp_25, mp_26, mp_28, mr_0, mr_1, mr_2, mr_3, mr_4, mr_5, mr_6, mr_7, mr_8, mr_9, mr_10, mr_11, mr_12, mw_0, mw_1, mw_2, mw_3, mw_4, mw_5, mw_6, mw_7, mw_8, mw_9, mw_10, mw_11, mw_12, hs2, bIm, Option.some_or]
        rw [us_id hs]
  have bad : ∀ (is take : Bool) (q : Nat) (a' : Nat), q ≤ n → R_X7_temperLine (d + 29) 55 [some (.ref am), some (.int (bI take)), some (.int (bI is))] [.int (nI q)] (put am (us (us M 10 (nI q)) 9 (nI a')) h) = some (.inl none, put am (us (us M 10 (nI q)) 9 (nI a')) h) := by
    intro is take q a' hq
    simp (disch := first | omega | decide) only [r_X7_temperLine_55, r_X7_temperLine_84, aK_ret, aK_thr, Option.bind_some, Option.toList_some, Option.toList_none, List.cons_append, List.nil_append, List.set_cons_zero, List.set_cons_succ, lk1, hci_put, put_2, us_2, ua_1, us_eq, us_ne, ua_eq, ua_ne, uf_eq, uf_ne, us_neD, ua_neD, ua_0, sm_1, sm_2, sm_sm, us_sm, sm_us1, sm_ne, nI_add, pk_mul, add_n0, ret_bI, bI_0, Nat.add_zero, nI10, nI00, ne_eq, eq_self, Bool.true_eq_false, Bool.false_eq_true, cond_true, cond_false, not_false_eq_true, not_true_eq_false, ite_true, ite_false, if_true, if_false, reduceIte, mf_0, mf_1, mf_2, mf_3, mf_4, mf_5, mf_6, mf_7, mf_8, mf_9, mf_10, mf_11, mf_12, mf_13, mf_14, mf_15, mf_16, mf_17, mf_18, mf_19, mf_20, mf_21, mf_22, mf_23, mf_24, mf_25, mf_26, mf_27, mf_28, mp_0, mp_3, mp_6, mp_7, mp_8, mp_9, mp_10, mp_11, mp_12, mp_14, mp_15, mp_16, mp_17, mp_25, mp_26, mp_28, mr_0, mr_1, mr_2, mr_3, mr_4, mr_5, mr_6, mr_7, mr_8, mr_9, mr_10, mr_11, mr_12, mw_0, mw_1, mw_2, mw_3, mw_4, mw_5, mw_6, mw_7, mw_8, mw_9, mw_10, mw_11, mw_12, nIm]
  have rest : ∀ (take : Bool) a1, a1 ≤ n → Lres am n M h F s (bif nxw x n a1 w_if then (match (pLev x n 6).2 (nxa x n a1 w_if) with
      | .inr q => .inr q
      | .inl (a2, d) => .inl (a2, fun F => bif d F then some take else none))
    else .inl (sk x n a1, fun _ => some take)) (R_X7_temperLine (d + 29) 29 [some (.ref am), some (.int (bI take)), none] [] (put am (us M 9 (nI a1)) h)) := by
    intro take a1 h1
    have g2 := S_has0 (d := d + 24) hL hK.1 s2 (by decide) h1
    cases hi : nxw x n a1 w_if with
    | false =>
      have := fin true take (nI (sk x n a1))
      simp (disch := first | omega | decide) only [r_X7_temperLine_29, r_X7_temperLine_32, r_X7_temperLine_35, r_X7_temperLine_45, aK_ret, aK_thr, Option.bind_some, Option.toList_some, Option.toList_none, List.cons_append, List.nil_append, List.set_cons_zero, List.set_cons_succ, lk1, hci_put, put_2, us_2, ua_1, us_eq, us_ne, ua_eq, ua_ne, uf_eq, uf_ne, us_neD, ua_neD, ua_0, sm_1, sm_2, sm_sm, us_sm, sm_us1, sm_ne, nI_add, pk_mul, add_n0, ret_bI, bI_0, Nat.add_zero, nI10, nI00, ne_eq, eq_self, Bool.true_eq_false, Bool.false_eq_true, cond_true, cond_false, not_false_eq_true, not_true_eq_false, ite_true, ite_false, if_true, if_false, reduceIte, mf_0, mf_1, mf_2, mf_3, mf_4, mf_5, mf_6, mf_7, mf_8, mf_9, mf_10, mf_11, mf_12, mf_13, mf_14, mf_15, mf_16, mf_17, mf_18, mf_19, mf_20, mf_21, mf_22, mf_23, mf_24, mf_25, mf_26, mf_27, mf_28, mp_0, mp_3, mp_6, mp_7, mp_8, mp_9, mp_10, mp_11, mp_12, mp_14, mp_15, mp_16, mp_17, mp_25, mp_26, mp_28, mr_0, mr_1, mr_2, mr_3, mr_4, mr_5, mr_6, mr_7, mr_8, mr_9, mr_10, mr_11, mr_12, mw_0, mw_1, mw_2, mw_3, mw_4, mw_5, mw_6, mw_7, mw_8, mw_9, mw_10, mw_11, mw_12, hf, k2, g2, hi, nxa_f hi, Lres]
      exact this
    | true =>
      have h3 := nxw_adv h1 hi
      have hp := (S_lev (F := F) (h := h) hK 6 (Nat.le_refl _) d M (nxa x n a1 w_if) hP h3.2).2
      dsimp only [cond_true]
      cases hr : (pLev x n 6).2 (nxa x n a1 w_if) with
      | inr q =>
        rw [hr] at hp
        obtain ⟨v, a', hq, hle, e⟩ := hp
        have b1 := bad true take q a' hq
        have b0 := bad false take q a' hq
        cases v <;> simp (disch := first | omega | decide) only [r_X7_temperLine_29, r_X7_temperLine_32, r_X7_temperLine_35, r_X7_temperLine_38, r_X7_temperLine_42, r_X7_temperLine_45, r_X7_temperLine_49, aK_ret, aK_thr, Option.bind_some, Option.toList_some, Option.toList_none, List.cons_append, List.nil_append, List.set_cons_zero, List.set_cons_succ, lk1, hci_put, put_2, us_2, ua_1, us_eq, us_ne, ua_eq, ua_ne, uf_eq, uf_ne, us_neD, ua_neD, ua_0, sm_1, sm_2, sm_sm, us_sm, sm_us1, sm_ne, nI_add, pk_mul, add_n0, ret_bI, bI_0, Nat.add_zero, nI10, nI00, ne_eq, eq_self, Bool.true_eq_false, Bool.false_eq_true, cond_true, cond_false, not_false_eq_true, not_true_eq_false, ite_true, ite_false, if_true, if_false, reduceIte, mf_0, mf_1, mf_2, mf_3, mf_4, mf_5, mf_6, mf_7, mf_8, mf_9, mf_10, mf_11, mf_12, mf_13, mf_14, mf_15, mf_16, mf_17, mf_18, mf_19, mf_20, mf_21, mf_22, mf_23, mf_24, mf_25, mf_26, mf_27, mf_28, mp_0, mp_3, mp_6, mp_7, mp_8, mp_9, mp_10, mp_11, mp_12, mp_14, mp_15, mp_16, mp_17, mp_25, mp_26, mp_28, mr_0, mr_1, mr_2, mr_3, mr_4, mr_5, mr_6, mr_7, mr_8, mr_9, mr_10, mr_11, mr_12, mw_0, mw_1, mw_2, mw_3, mw_4, mw_5, mw_6, mw_7, mw_8, mw_9, mw_10, mw_11, mw_12, k2, g2, hi, e]
        · exact ⟨a', hq, hle, b0⟩
        · exact ⟨a', hq, hle, b1⟩
      | inl z =>
        obtain ⟨a2, u⟩ := z
        rw [hr] at hp
        have hp : _ = _ := hp
        dsimp only at hp
        unfold Lres
        dsimp only
        have b1 := fin true take (nI a2)
        have b0 := fin false take (nI a2)
        cases hu : u F <;> rw [hu] at hp <;> simp (disch := first | omega | decide) only [r_X7_temperLine_29, r_X7_temperLine_32, r_X7_temperLine_35, r_X7_temperLine_38, r_X7_temperLine_42, r_X7_temperLine_45, r_X7_temperLine_49, aK_ret, aK_thr, Option.bind_some, Option.toList_some, Option.toList_none, List.cons_append, List.nil_append, List.set_cons_zero, List.set_cons_succ, lk1, hci_put, put_2, us_2, ua_1, us_eq, us_ne, ua_eq, ua_ne, uf_eq, uf_ne, us_neD, ua_neD, ua_0, sm_1, sm_2, sm_sm, us_sm, sm_us1, sm_ne, nI_add, pk_mul, add_n0, ret_bI, bI_0, Nat.add_zero, nI10, nI00, ne_eq, eq_self, Bool.true_eq_false, Bool.false_eq_true, cond_true, cond_false, not_false_eq_true, not_true_eq_false, ite_true, ite_false, if_true, if_false, reduceIte, mf_0, mf_1, mf_2, mf_3, mf_4, mf_5, mf_6, mf_7, mf_8, mf_9, mf_10, mf_11, mf_12, mf_13, mf_14, mf_15, mf_16, mf_17, mf_18, mf_19, mf_20, mf_21, mf_22, mf_23, mf_24, mf_25, mf_26, mf_27, mf_28, mp_0, mp_3, mp_6, mp_7, mp_8, mp_9, mp_10, mp_11, mp_12, mp_14, mp_15, mp_16, mp_17, mp_25, mp_26, mp_28, mr_0, mr_1, mr_2, mr_3, mr_4, mr_5, mr_6, mr_7, mr_8, mr_9, mr_10, mr_11, mr_12, mw_0, mw_1, mw_2, mw_3, mw_4, mw_5, mw_6, mw_7, mw_8, mw_9, mw_10, mw_11, mw_12, hf, k2, g2, hi, hp]
        · exact b0
        · exact b1
  unfold pTL
  dsimp only
  cases ht : nxw x n a w_take with
  | true =>
    have h1 := nxw_adv ha ht
    have := rest true _ h1.2
    simp (disch := first | omega | decide) only [e_X7_temperLine, r_X7_temperLine_0, r_X7_temperLine_3, r_X7_temperLine_6, aK_ret, aK_thr, Option.bind_some, Option.toList_some, Option.toList_none, List.cons_append, List.nil_append, List.set_cons_zero, List.set_cons_succ, lk1, hci_put, put_2, us_2, ua_1, us_eq, us_ne, ua_eq, ua_ne, uf_eq, uf_ne, us_neD, ua_neD, ua_0, sm_1, sm_2, sm_sm, us_sm, sm_us1, sm_ne, nI_add, pk_mul, add_n0, ret_bI, bI_0, Nat.add_zero, nI10, nI00, ne_eq, eq_self, Bool.true_eq_false, Bool.false_eq_true, cond_true, cond_false, not_false_eq_true, not_true_eq_false, ite_true, ite_false, if_true, if_false, reduceIte, mf_0, mf_1, mf_2, mf_3, mf_4, mf_5, mf_6, mf_7, mf_8, mf_9, mf_10, mf_11, mf_12, mf_13, mf_14, mf_15, mf_16, mf_17, mf_18, mf_19, mf_20, mf_21, mf_22, mf_23, mf_24, mf_25, mf_26, mf_27, mf_28, mp_0, mp_3, mp_6, mp_7, mp_8, mp_9, mp_10, mp_11, mp_12, mp_14, mp_15, mp_16, mp_17, mp_25, mp_26, mp_28, mr_0, mr_1, mr_2, mr_3, mr_4, mr_5, mr_6, mr_7, mr_8, mr_9, mr_10, mr_11, mr_12, mw_0, mw_1, mw_2, mw_3, mw_4, mw_5, mw_6, mw_7, mw_8, mw_9, mw_10, mw_11, mw_12, k0, g0, ht, Bool.not_true, Bool.false_and]
    exact this
  | false =>
    cases hr : nxw x n a w_refuse with
    | true =>
      have h1 := nxw_adv ha hr
      have := rest false _ h1.2
      simp (disch := first | omega | decide) only [e_X7_temperLine, r_X7_temperLine_0, r_X7_temperLine_3, r_X7_temperLine_6, r_X7_temperLine_11, r_X7_temperLine_14, r_X7_temperLine_17, aK_ret, aK_thr, Option.bind_some, Option.toList_some, Option.toList_none, List.cons_append, List.nil_append, List.set_cons_zero, List.set_cons_succ, lk1, hci_put, put_2, us_2, ua_1, us_eq, us_ne, ua_eq, ua_ne, uf_eq, uf_ne, us_neD, ua_neD, ua_0, sm_1, sm_2, sm_sm, us_sm, sm_us1, sm_ne, nI_add, pk_mul, add_n0, ret_bI, bI_0, Nat.add_zero, nI10, nI00, ne_eq, eq_self, Bool.true_eq_false, Bool.false_eq_true, cond_true, cond_false, not_false_eq_true, not_true_eq_false, ite_true, ite_false, if_true, if_false, reduceIte, mf_0, mf_1, mf_2, mf_3, mf_4, mf_5, mf_6, mf_7, mf_8, mf_9, mf_10, mf_11, mf_12, mf_13, mf_14, mf_15, mf_16, mf_17, mf_18, mf_19, mf_20, mf_21, mf_22, mf_23, mf_24, mf_25, mf_26, mf_27, mf_28, mp_0, mp_3, mp_6, mp_7, mp_8, mp_9, mp_10, mp_11, mp_12, mp_14, mp_15, mp_16, mp_17, mp_25, mp_26, mp_28, mr_0, mr_1, mr_2, mr_3, mr_4, mr_5, mr_6, mr_7, mr_8, mr_9, mr_10, mr_11, mr_12, mw_0, mw_1, mw_2, mw_3, mw_4, mw_5, mw_6, mw_7, mw_8, mw_9, mw_10, mw_11, mw_12, k0, g0, ht, nxa_f ht, k1, g1, hr, Bool.not_true, Bool.not_false, Bool.and_false]
      exact this
    | false =>
      have hw := S_wrong1 (d := d + 28) (am := am) (M := us M 9 (nI (sk x n a))) (h := h) (w := nI (sk x n a)) (by rw [us_neD (by decide)]; exact hf)
      simp (disch := first | omega | decide) only [e_X7_temperLine, r_X7_temperLine_0, r_X7_temperLine_3, r_X7_temperLine_6, r_X7_temperLine_11, r_X7_temperLine_14, r_X7_temperLine_17, r_X7_temperLine_20, r_X7_temperLine_25, r_X7_temperLine_28, aK_ret, aK_thr, Option.bind_some, Option.toList_some, Option.toList_none, List.cons_append, List.nil_append, List.set_cons_zero, List.set_cons_succ, lk1, hci_put, put_2, us_2, ua_1, us_eq, us_ne, ua_eq, ua_ne, uf_eq, uf_ne, us_neD, ua_neD, ua_0, sm_1, sm_2, sm_sm, us_sm, sm_us1, sm_ne, nI_add, pk_mul, add_n0, ret_bI, bI_0, Nat.add_zero, nI10, nI00, ne_eq, eq_self, Bool.true_eq_false, Bool.false_eq_true, cond_true, cond_false, not_false_eq_true, not_true_eq_false, ite_true, ite_false, if_true, if_false, reduceIte, mf_0, mf_1, mf_2, mf_3, mf_4, mf_5, mf_6, mf_7, mf_8, mf_9, mf_10, mf_11, mf_12, mf_13, mf_14, mf_15, mf_16, mf_17, mf_18, mf_19, mf_20, mf_21, mf_22, mf_23, mf_24, mf_25, mf_26, mf_27, mf_28, mp_0, mp_3, mp_6, mp_7, mp_8, mp_9, mp_10, mp_11, mp_12, mp_14, mp_15, mp_16, mp_17, mp_25, mp_26, mp_28, mr_0, mr_1, mr_2, mr_3, mr_4, mr_5, mr_6, mr_7, mr_8, mr_9, mr_10, mr_11, mr_12, mw_0, mw_1, mw_2, mw_3, mw_4, mw_5, mw_6, mw_7, mw_8, mw_9, mw_10, mw_11, mw_12, k0, g0, ht, nxa_f ht, k1, g1, hr, nxa_f hr, hw, us9_co, Bool.not_false, Bool.and_true]
      exact ⟨sk x n a, hb, by omega, rfl⟩
