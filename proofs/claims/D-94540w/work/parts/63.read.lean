/-! ===== tempers: whole texts ===== -/
def pTx (x : Nat → Int32) (n : Nat) : Nat → Nat → (FV → Option Bool) → Res (Option Bool)
  | 0, a, _ => .inr (sk x n a)
  | f + 1, a, acc => match pTL x n a with
    | .inr q => .inr q
    | .inl (a1, d) => if sk x n a1 = n then .inl (n, fun F => (acc F).or (d F)) else if x (sk x n a1) = nI 59 then pTx x n f (sk x n a1 + 1) (fun F => (acc F).or (d F)) else .inr (sk x n a1)
/-- a text of a temper: what it says; or its first wrong byte -/
def pText (x : Nat → Int32) (n : Nat) : Res (Option Bool) := if sk x n 0 = n then .inl (n, fun _ => none) else pTx x n 12 0 (fun _ => none)
theorem pTL_sk {x : Nat → Int32} {n a : Nat} : pTL x n (sk x n a) = pTL x n a := by unfold pTL; simp only [sk_sk, nxw_sk, nxa_sk]
theorem us17_12 {M : MS} {v w : Int32} : us (us M 17 v) 12 w = us (us M 12 w) 17 v := us_co (by decide)
theorem us10_12 {M : MS} {v w : Int32} : us (us M 10 v) 12 w = us (us M 12 w) 10 v := us_co (by decide)
theorem S_skip' {d am n : Nat} {x : Nat → Int32} {M : MS} {h : AH} (hL : Lx M x n) {a : Nat} (ha : a < 1000) : exec tTab (d + 2) K_X7_skip [.ref am] (put am (us M 9 (nI a)) h) = some (.inl none, put am (us M 9 (nI (sk x n a))) h) := by
  by_cases h1 : a ≤ n
  · exact S_skip hL a h1
  · have h8 := hL.1
    have h400 := hL.2.1
    rw [e_X7_skip, q_X7_skip_0, sk_end (by omega)]
    simp (disch := first | omega | decide) only [e_X7_skip, r_X7_skip_4, r_X7_skip_8, r_X7_skip_37, r_X7_skip_11, r_X7_skip_16, r_X7_skip_19, r_X7_skip_24, r_X7_skip_29, r_X7_skip_34, aK_ret, aK_thr, Option.bind_some, Option.toList_some, Option.toList_none, List.cons_append, List.nil_append, List.set_cons_zero, List.set_cons_succ, lk1, hci_put, put_2, us_2, ua_1, us_eq, us_ne, ua_eq, ua_ne, uf_eq, uf_ne, us_neD, ua_neD, ua_0, sm_1, sm_2, sm_sm, us_sm, sm_us1, sm_ne, nI_add, pk_mul, add_n0, ret_bI, bI_0, Nat.add_zero, nI10, nI00, ne_eq, eq_self, Bool.true_eq_false, Bool.false_eq_true, cond_true, cond_false, not_false_eq_true, not_true_eq_false, ite_true, ite_false, if_true, if_false, reduceIte, mf_0, mf_1, mf_2, mf_3, mf_4, mf_5, mf_6, mf_7, mf_8, mf_9, mf_10, mf_11, mf_12, mf_13, mf_14, mf_15, mf_16, mf_17, mf_18, mf_19, mf_20, mf_21, mf_22, mf_23, mf_24, mf_25, mf_26, mf_27, mf_28, mp_0, mp_3, mp_6, mp_7, mp_8, mp_9, mp_10, mp_11, mp_12, mp_14, mp_15, mp_16, mp_17, mp_25, mp_26, mp_28, mr_0, mr_1, mr_2, mr_3, mr_4, mr_5, mr_6, mr_7, mr_8, mr_9, mr_10, mr_11, mr_12, mw_0, mw_1, mw_2, mw_3, mw_4, mw_5, mw_6, mw_7, mw_8, mw_9, mw_10, mw_11, mw_12, h8, nI_leI, show n ≤ a by omega]
def TS (am : Nat) (M : MS) (h : AH) (l s : Int32) (a : Nat) : AH := put am (us (us (us (us M 11 (nI 0)) 12 l) 17 s) 9 (nI a)) h
def TF (am : Nat) (M : MS) (h : AH) (l s : Int32) (q a : Nat) : AH := put am (us (us (us (us (us M 11 (nI 0)) 12 l) 17 s) 10 (nI q)) 9 (nI a)) h
def TR (am n : Nat) (M : MS) (h : AH) (F : FV) (r : Res (Option Bool)) (e : Option (AOut × AH)) : Prop := match r with
  | .inl z => ∃ l, e = some (.inl none, TS am M h l (encS (z.2 F)) z.1)
  | .inr q => ∃ l s a', q ≤ n ∧ a' ≤ n + 8 ∧ e = some (.inl none, TF am M h l s q a')
theorem S_readT {d am n : Nat} {x : Nat → Int32} {M : MS} {h : AH} {F : FV} (hL : Lx M x n) (hf : M.1 10 = -1) (hF : FM M F) (hs : M.1 17 = -1) (hK : KS h am) : TR am n M h F (pText x n) (exec tTab (d + 31) K_X7_read [.ref am, .int (nI 1)] (put am M h)) := by
  have h400 := hL.2.1
  have h80 := hL.1
  have hL2 : ∀ l s, Lx (us (us (us M 11 (nI 0)) 12 l) 17 s) x n := fun l s => ((hL.u (by decide)).u (by decide)).u (by decide)
  have h8 : ∀ l s, (us (us (us M 11 (nI 0)) 12 l) 17 s).1 8 = nI n := fun l s => (hL2 l s).1
  have hf2 : ∀ l s, (us (us (us M 11 (nI 0)) 12 l) 17 s).1 10 = -1 := fun l s => (us_neD (by decide)).trans ((us_neD (by decide)).trans ((us_neD (by decide)).trans hf))
  have hl2 : ∀ l s, (us (us (us M 11 (nI 0)) 12 l) 17 s).1 12 = l := fun l s => (us_neD (by decide)).trans us_eq
  have hP2 : ∀ l s, PM (us (us (us M 11 (nI 0)) 12 l) 17 s) x n 0 F := fun l s => ⟨hL2 l s, hf2 l s, (us_neD (by decide)).trans ((us_neD (by decide)).trans us_eq), ((hF.u (by decide)).u (by decide)).u (by decide)⟩
  have stop : ∀ H, R_X7_read (d + 30) 36 [some (.ref am), some (.int (nI 1)), some (.int (nI 0))] [] H = some (.inl none, H) := by
    intro H
    rw [q_X7_read_36]
    simp only [r_X7_read_167, nI00, if_true]
  have bad1 : ∀ (l s : Int32) (q a' : Nat), q ≤ n → a' ≤ n + 8 → ∃ a'', a'' ≤ n + 8 ∧ R_X7_read (d + 30) 106 [some (.ref am), some (.int (nI 1)), some (.int (nI 1))] [] (TF am M h l s q a') = some (.inl none, TF am M h l s q a'') := by
    intro l s q a' hq ha'
    have hk := S_skip' (d := d + 28) (am := am) (h := h) ((hL2 l s).u (k := 10) (v := nI q) (by decide)) (a := a') (by omega)
    refine ⟨sk x n a', ?_, ?_⟩
    · by_cases h1 : a' ≤ n
      · have := sk_le (x := x) h1; omega
      · rw [sk_end (by omega)]; exact ha'
    · unfold TF
      simp (disch := first | omega | decide) only [r_X7_read_106, r_X7_read_110, r_X7_read_114, r_X7_read_129, aK_ret, aK_thr, Option.bind_some, Option.toList_some, Option.toList_none, List.cons_append, List.nil_append, List.set_cons_zero, List.set_cons_succ, lk1, hci_put, put_2, us_2, ua_1, us_eq, us_ne, ua_eq, ua_ne, uf_eq, uf_ne, us_neD, ua_neD, ua_0, sm_1, sm_2, sm_sm, us_sm, sm_us1, sm_ne, nI_add, pk_mul, add_n0, ret_bI, bI_0, Nat.add_zero, nI10, nI00, ne_eq, eq_self, Bool.true_eq_false, Bool.false_eq_true, cond_true, cond_false, not_false_eq_true, not_true_eq_false, ite_true, ite_false, if_true, if_false, reduceIte, mf_0, mf_1, mf_2, mf_3, mf_4, mf_5, mf_6, mf_7, mf_8, mf_9, mf_10, mf_11, mf_12, mf_13, mf_14, mf_15, mf_16, mf_17, mf_18, mf_19, mf_20, mf_21, mf_22, mf_23, mf_24, mf_25, mf_26, mf_27, mf_28, mp_0, mp_3, mp_6, mp_7, mp_8, mp_9, mp_10, mp_11, mp_12, mp_14, mp_15, mp_16, mp_17, mp_25, mp_26, mp_28, mr_0, mr_1, mr_2, mr_3, mr_4, mr_5, mr_6, mr_7, mr_8, mr_9, mr_10, mr_11, mr_12, mw_0, mw_1, mw_2, mw_3, mw_4, mw_5, mw_6, mw_7, mw_8, mw_9, mw_10, mw_11, mw_12, hk, nIm, stop]
  have loop : ∀ f l a acc, l + f = 12 → a ≤ n → TR am n M h F (pTx x n f a acc) (R_X7_read (d + 30) 36 [some (.ref am), some (.int (nI 1)), some (.int (nI 1))] [] (TS am M h (nI l) (encS (acc F)) a)) := by
    intro f
    induction f with
    | zero =>
      intro l a acc hl ha
      have hl : l = 12 := by omega
      subst hl
      have hsk := S_skip (d := d + 28) (am := am) (h := h) (hL2 (nI 12) (encS (acc F))) a ha
      have hb := sk_le (x := x) ha
      have hw := S_wrong1 (d := d + 29) (am := am) (M := us (us (us (us M 11 (nI 0)) 12 (nI 12)) 17 (encS (acc F))) 9 (nI (sk x n a))) (h := h) (w := nI (sk x n a)) ((us_neD (by decide)).trans (hf2 _ _))
      obtain ⟨a'', h1, h2⟩ := bad1 (nI 13) (encS (acc F)) (sk x n a) (sk x n a) hb (by omega)
      refine ⟨nI 13, encS (acc F), a'', hb, h1, ?_⟩
      rw [← h2, q_X7_read_36]
      unfold TS TF
      simp (disch := first | omega | decide) only [r_X7_read_40, r_X7_read_44, r_X7_read_48, r_X7_read_52, r_X7_read_56, r_X7_read_60, r_X7_read_70, r_X7_read_75, r_X7_read_78, r_X7_read_101, aK_ret, aK_thr, Option.bind_some, Option.toList_some, Option.toList_none, List.cons_append, List.nil_append, List.set_cons_zero, List.set_cons_succ, lk1, hci_put, put_2, us_2, ua_1, us_eq, us_ne, ua_eq, ua_ne, uf_eq, uf_ne, us_neD, ua_neD, ua_0, sm_1, sm_2, sm_sm, us_sm, sm_us1, sm_ne, nI_add, pk_mul, add_n0, ret_bI, bI_0, Nat.add_zero, nI10, nI00, ne_eq, eq_self, Bool.true_eq_false, Bool.false_eq_true, cond_true, cond_false, not_false_eq_true, not_true_eq_false, ite_true, ite_false, if_true, if_false, reduceIte, mf_0, mf_1, mf_2, mf_3, mf_4, mf_5, mf_6, mf_7, mf_8, mf_9, mf_10, mf_11, mf_12, mf_13, mf_14, mf_15, mf_16, mf_17, mf_18, mf_19, mf_20, mf_21, mf_22, mf_23, mf_24, mf_25, mf_26, mf_27, mf_28, mp_0, mp_3, mp_6, mp_7, mp_8, mp_9, mp_10, mp_11, mp_12, mp_14, mp_15, mp_16, mp_17, mp_25, mp_26, mp_28, mr_0, mr_1, mr_2, mr_3, mr_4, mr_5, mr_6, mr_7, mr_8, mr_9, mr_10, mr_11, mr_12, mw_0, mw_1, mw_2, mw_3, mw_4, mw_5, mw_6, mw_7, mw_8, mw_9, mw_10, mw_11, mw_12, Nat.reduceAdd, nI10, nI00, hf, h80, hl2, hsk, hw, us9_co, us10_12, us17_12, us_us]
    | succ f ih =>
      intro l a acc hl ha
      have hsk := S_skip (d := d + 28) (am := am) (h := h) (hL2 (nI l) (encS (acc F))) a ha
      have hb := sk_le (x := x) ha
      have ht := S_temperLine (d := d) (am := am) (h := h) (hP2 (nI l) (encS (acc F))) hK (s := acc F) us_eq hb
      rw [pTL_sk] at ht
      have h12 : ¬ nI l = nI 12 := by rw [nI_inj (by omega) (by decide)]; omega
      rw [pTx, q_X7_read_36]
      cases hr : pTL x n a with
      | inr q =>
        rw [hr] at ht
        obtain ⟨a', hq, hle, e⟩ := ht
        obtain ⟨a'', h1, h2⟩ := bad1 (nI (l + 1)) (encS (acc F)) q a' hq hle
        refine ⟨nI (l + 1), encS (acc F), a'', hq, h1, ?_⟩
        rw [← h2]
        unfold TS TF
        simp (disch := first | omega | decide) only [r_X7_read_40, r_X7_read_44, r_X7_read_48, r_X7_read_52, r_X7_read_56, r_X7_read_60, r_X7_read_81, r_X7_read_85, r_X7_read_89, r_X7_read_101, aK_ret, aK_thr, Option.bind_some, Option.toList_some, Option.toList_none, List.cons_append, List.nil_append, List.set_cons_zero, List.set_cons_succ, lk1, hci_put, put_2, us_2, ua_1, us_eq, us_ne, ua_eq, ua_ne, uf_eq, uf_ne, us_neD, ua_neD, ua_0, sm_1, sm_2, sm_sm, us_sm, sm_us1, sm_ne, nI_add, pk_mul, add_n0, ret_bI, bI_0, Nat.add_zero, nI10, nI00, ne_eq, eq_self, Bool.true_eq_false, Bool.false_eq_true, cond_true, cond_false, not_false_eq_true, not_true_eq_false, ite_true, ite_false, if_true, if_false, reduceIte, mf_0, mf_1, mf_2, mf_3, mf_4, mf_5, mf_6, mf_7, mf_8, mf_9, mf_10, mf_11, mf_12, mf_13, mf_14, mf_15, mf_16, mf_17, mf_18, mf_19, mf_20, mf_21, mf_22, mf_23, mf_24, mf_25, mf_26, mf_27, mf_28, mp_0, mp_3, mp_6, mp_7, mp_8, mp_9, mp_10, mp_11, mp_12, mp_14, mp_15, mp_16, mp_17, mp_25, mp_26, mp_28, mr_0, mr_1, mr_2, mr_3, mr_4, mr_5, mr_6, mr_7, mr_8, mr_9, mr_10, mr_11, mr_12, mw_0, mw_1, mw_2, mw_3, mw_4, mw_5, mw_6, mw_7, mw_8, mw_9, mw_10, mw_11, mw_12, Nat.reduceAdd, nI10, nI00, hf, h80, hl2, hsk, h12, e, us9_co, us10_12, us17_12, us_us]
      | inl z =>
        obtain ⟨a1, u⟩ := z
        rw [hr] at ht
        have ht : _ = _ := ht
        dsimp only at ht
        have h5 := pTL_adv _ _ _ ha hr
        have hb1 := sk_le (x := x) h5.2
        have hsk1 := S_skip (d := d + 28) (am := am) (h := h) (hL2 (nI (l + 1)) (encS ((acc F).or (u F)))) a1 h5.2
        have hsg := S_isSign (d := d + 27) (am := am) (h := h) (c := nI 59) (hL2 (nI (l + 1)) (encS ((acc F).or (u F)))) hb1
        rw [nxs_sk, sk_sk] at hsg
        have go : R_X7_read (d + 30) 36 [some (.ref am), some (.int (nI 1)), some (.int (nI 1))] [] (TS am M h (nI l) (encS (acc F)) a) = if ¬ sk x n a1 = n then R_X7_read (d + 30) 134 [some (.ref am), some (.int (nI 1)), some (.int (nI 1))] [] (TS am M h (nI (l + 1)) (encS ((acc F).or (u F))) (sk x n a1)) else R_X7_read (d + 30) 129 [some (.ref am), some (.int (nI 1)), some (.int (nI 1))] [] (TS am M h (nI (l + 1)) (encS ((acc F).or (u F))) (sk x n a1)) := by
          rw [q_X7_read_36]
          unfold TS
          simp (disch := first | omega | decide) only [r_X7_read_40, r_X7_read_44, r_X7_read_48, r_X7_read_52, r_X7_read_56, r_X7_read_60, r_X7_read_81, r_X7_read_85, r_X7_read_89, r_X7_read_101, r_X7_read_106, r_X7_read_110, r_X7_read_114, r_X7_read_118, r_X7_read_122, r_X7_read_126, aK_ret, aK_thr, Option.bind_some, Option.toList_some, Option.toList_none, List.cons_append, List.nil_append, List.set_cons_zero, List.set_cons_succ, lk1, hci_put, put_2, us_2, ua_1, us_eq, us_ne, ua_eq, ua_ne, uf_eq, uf_ne, us_neD, ua_neD, ua_0, sm_1, sm_2, sm_sm, us_sm, sm_us1, sm_ne, nI_add, pk_mul, add_n0, ret_bI, bI_0, Nat.add_zero, nI10, nI00, ne_eq, eq_self, Bool.true_eq_false, Bool.false_eq_true, cond_true, cond_false, not_false_eq_true, not_true_eq_false, ite_true, ite_false, if_true, if_false, reduceIte, mf_0, mf_1, mf_2, mf_3, mf_4, mf_5, mf_6, mf_7, mf_8, mf_9, mf_10, mf_11, mf_12, mf_13, mf_14, mf_15, mf_16, mf_17, mf_18, mf_19, mf_20, mf_21, mf_22, mf_23, mf_24, mf_25, mf_26, mf_27, mf_28, mp_0, mp_3, mp_6, mp_7, mp_8, mp_9, mp_10, mp_11, mp_12, mp_14, mp_15, mp_16, mp_17, mp_25, mp_26, mp_28, mr_0, mr_1, mr_2, mr_3, mr_4, mr_5, mr_6, mr_7, mr_8, mr_9, mr_10, mr_11, mr_12, mw_0, mw_1, mw_2, mw_3, mw_4, mw_5, mw_6, mw_7, mw_8, mw_9, mw_10, mw_11, mw_12, Nat.reduceAdd, nI10, nI00, hf, h80, hl2, hsk, h12, ht, us9_co, us10_12, us17_12, us_us, hsk1, h8, nI_inj]
        rw [← q_X7_read_36, go]
        dsimp only
        by_cases he : sk x n a1 = n
        · rw [if_neg (not_not_intro he), if_pos he]
          simp only [r_X7_read_129, stop]
          exact ⟨nI (l + 1), by rw [he]⟩
        · rw [if_pos he, if_neg he]
          have hlt : sk x n a1 < n := by omega
          by_cases hc : x (sk x n a1) = nI 59
          · rw [if_pos hc]
            have h1 : nxs x n a1 (nI 59) = true := decide_eq_true ⟨hlt, hc⟩
            rw [h1] at hsg
            have := ih (l + 1) (sk x n a1 + 1) (fun F => (acc F).or (u F)) (by omega) (by omega)
            unfold TS at this ⊢
            simp (disch := first | omega | decide) only [r_X7_read_134, r_X7_read_140, r_X7_read_143, r_X7_read_148, r_X7_read_153, aK_ret, aK_thr, Option.bind_some, Option.toList_some, Option.toList_none, List.cons_append, List.nil_append, List.set_cons_zero, List.set_cons_succ, lk1, hci_put, put_2, us_2, ua_1, us_eq, us_ne, ua_eq, ua_ne, uf_eq, uf_ne, us_neD, ua_neD, ua_0, sm_1, sm_2, sm_sm, us_sm, sm_us1, sm_ne, nI_add, pk_mul, add_n0, ret_bI, bI_0, Nat.add_zero, nI10, nI00, ne_eq, eq_self, Bool.true_eq_false, Bool.false_eq_true, cond_true, cond_false, not_false_eq_true, not_true_eq_false, ite_true, ite_false, if_true, if_false, reduceIte, mf_0, mf_1, mf_2, mf_3, mf_4, mf_5, mf_6, mf_7, mf_8, mf_9, mf_10, mf_11, mf_12, mf_13, mf_14, mf_15, mf_16, mf_17, mf_18, mf_19, mf_20, mf_21, mf_22, mf_23, mf_24, mf_25, mf_26, mf_27, mf_28, mp_0, mp_3, mp_6, mp_7, mp_8, mp_9, mp_10, mp_11, mp_12, mp_14, mp_15, mp_16, mp_17, mp_25, mp_26, mp_28, mr_0, mr_1, mr_2, mr_3, mr_4, mr_5, mr_6, mr_7, mr_8, mr_9, mr_10, mr_11, mr_12, mw_0, mw_1, mw_2, mw_3, mw_4, mw_5, mw_6, mw_7, mw_8, mw_9, mw_10, mw_11, mw_12, hsg, us_us]
            exact this
          · rw [if_neg hc]
            have h1 : nxs x n a1 (nI 59) = false := decide_eq_false (fun hh => hc hh.2)
            rw [h1] at hsg
            have hw := S_wrong1 (d := d + 29) (am := am) (M := us (us (us (us M 11 (nI 0)) 12 (nI (l + 1))) 17 (encS ((acc F).or (u F)))) 9 (nI (sk x n a1))) (h := h) (w := nI (sk x n a1)) ((us_neD (by decide)).trans (hf2 _ _))
            refine ⟨nI (l + 1), encS ((acc F).or (u F)), sk x n a1, hb1, by omega, ?_⟩
            have fin : R_X7_read (d + 30) 36 [some (.ref am), some (.int (nI 1)), some (.int (nI 1))] [] (TF am M h (nI (l + 1)) (encS ((acc F).or (u F))) (sk x n a1) (sk x n a1)) = some (.inl none, TF am M h (nI (l + 1)) (encS ((acc F).or (u F))) (sk x n a1) (sk x n a1)) := by
              rw [q_X7_read_36]
              unfold TF
              simp (disch := first | omega | decide) only [r_X7_read_40, r_X7_read_44, r_X7_read_167, aK_ret, aK_thr, Option.bind_some, Option.toList_some, Option.toList_none, List.cons_append, List.nil_append, List.set_cons_zero, List.set_cons_succ, lk1, hci_put, put_2, us_2, ua_1, us_eq, us_ne, ua_eq, ua_ne, uf_eq, uf_ne, us_neD, ua_neD, ua_0, sm_1, sm_2, sm_sm, us_sm, sm_us1, sm_ne, nI_add, pk_mul, add_n0, ret_bI, bI_0, Nat.add_zero, nI10, nI00, ne_eq, eq_self, Bool.true_eq_false, Bool.false_eq_true, cond_true, cond_false, not_false_eq_true, not_true_eq_false, ite_true, ite_false, if_true, if_false, reduceIte, mf_0, mf_1, mf_2, mf_3, mf_4, mf_5, mf_6, mf_7, mf_8, mf_9, mf_10, mf_11, mf_12, mf_13, mf_14, mf_15, mf_16, mf_17, mf_18, mf_19, mf_20, mf_21, mf_22, mf_23, mf_24, mf_25, mf_26, mf_27, mf_28, mp_0, mp_3, mp_6, mp_7, mp_8, mp_9, mp_10, mp_11, mp_12, mp_14, mp_15, mp_16, mp_17, mp_25, mp_26, mp_28, mr_0, mr_1, mr_2, mr_3, mr_4, mr_5, mr_6, mr_7, mr_8, mr_9, mr_10, mr_11, mr_12, mw_0, mw_1, mw_2, mw_3, mw_4, mw_5, mw_6, mw_7, mw_8, mw_9, mw_10, mw_11, mw_12, nI10, nIm]
            unfold TS
            unfold TF at fin ⊢
            simp (disch := first | omega | decide) only [r_X7_read_134, r_X7_read_140, r_X7_read_156, r_X7_read_161, r_X7_read_164, aK_ret, aK_thr, Option.bind_some, Option.toList_some, Option.toList_none, List.cons_append, List.nil_append, List.set_cons_zero, List.set_cons_succ, lk1, hci_put, put_2, us_2, ua_1, us_eq, us_ne, ua_eq, ua_ne, uf_eq, uf_ne, us_neD, ua_neD, ua_0, sm_1, sm_2, sm_sm, us_sm, sm_us1, sm_ne, nI_add, pk_mul, add_n0, ret_bI, bI_0, Nat.add_zero, nI10, nI00, ne_eq, eq_self, Bool.true_eq_false, Bool.false_eq_true, cond_true, cond_false, not_false_eq_true, not_true_eq_false, ite_true, ite_false, if_true, if_false, reduceIte, mf_0, mf_1, mf_2, mf_3, mf_4, mf_5, mf_6, mf_7, mf_8, mf_9, mf_10, mf_11, mf_12, mf_13, mf_14, mf_15, mf_16, mf_17, mf_18, mf_19, mf_20, mf_21, mf_22, mf_23, mf_24, mf_25, mf_26, mf_27, mf_28, mp_0, mp_3, mp_6, mp_7, mp_8, mp_9, mp_10, mp_11, mp_12, mp_14, mp_15, mp_16, mp_17, mp_25, mp_26, mp_28, mr_0, mr_1, mr_2, mr_3, mr_4, mr_5, mr_6, mr_7, mr_8, mr_9, mr_10, mr_11, mr_12, mw_0, mw_1, mw_2, mw_3, mw_4, mw_5, mw_6, mw_7, mw_8, mw_9, mw_10, mw_11, mw_12, hsg, hw, us9_co, fin]
  have hid : us M 17 (-1) = M := us_id hs
  have e0 : us (us (us M 11 (nI 0)) 12 (nI 0)) 17 (-1) = us (us M 11 (nI 0)) 12 (nI 0) := us_id ((us_neD (by decide)).trans ((us_neD (by decide)).trans hs))
  have hsk := S_skip (d := d + 28) (am := am) (h := h) (hL2 (nI 0) (-1)) 0 (Nat.zero_le _)
  have hb := sk_le (x := x) (Nat.zero_le n)
  rw [e0] at hsk
  have h8' := h8 (nI 0) (-1)
  rw [e0] at h8'
  have start : exec tTab (d + 31) K_X7_read [.ref am, .int (nI 1)] (put am M h) = if n ≤ sk x n 0 then R_X7_read (d + 30) 34 [some (.ref am), some (.int (nI 1)), none] [] (put am (us (us (us M 11 (nI 0)) 12 (nI 0)) 9 (nI (sk x n 0))) h) else R_X7_read (d + 30) 30 [some (.ref am), some (.int (nI 1)), none] [] (put am (us (us (us M 11 (nI 0)) 12 (nI 0)) 9 (nI (sk x n 0))) h) := by
    simp (disch := first | omega | decide) only [e_X7_read, r_X7_read_0, r_X7_read_5, r_X7_read_10, r_X7_read_15, r_X7_read_19, r_X7_read_23, r_X7_read_27, aK_ret, aK_thr, Option.bind_some, Option.toList_some, Option.toList_none, List.cons_append, List.nil_append, List.set_cons_zero, List.set_cons_succ, lk1, hci_put, put_2, us_2, ua_1, us_eq, us_ne, ua_eq, ua_ne, uf_eq, uf_ne, us_neD, ua_neD, ua_0, sm_1, sm_2, sm_sm, us_sm, sm_us1, sm_ne, nI_add, pk_mul, add_n0, ret_bI, bI_0, Nat.add_zero, nI10, nI00, ne_eq, eq_self, Bool.true_eq_false, Bool.false_eq_true, cond_true, cond_false, not_false_eq_true, not_true_eq_false, ite_true, ite_false, if_true, if_false, reduceIte, mf_0, mf_1, mf_2, mf_3, mf_4, mf_5, mf_6, mf_7, mf_8, mf_9, mf_10, mf_11, mf_12, mf_13, mf_14, mf_15, mf_16, mf_17, mf_18, mf_19, mf_20, mf_21, mf_22, mf_23, mf_24, mf_25, mf_26, mf_27, mf_28, mp_0, mp_3, mp_6, mp_7, mp_8, mp_9, mp_10, mp_11, mp_12, mp_14, mp_15, mp_16, mp_17, mp_25, mp_26, mp_28, mr_0, mr_1, mr_2, mr_3, mr_4, mr_5, mr_6, mr_7, mr_8, mr_9, mr_10, mr_11, mr_12, mw_0, mw_1, mw_2, mw_3, mw_4, mw_5, mw_6, mw_7, mw_8, mw_9, mw_10, mw_11, mw_12, us9_co, hsk, h80, nI_leI]
  rw [start]
  unfold pText
  by_cases he : sk x n 0 = n
  · rw [if_pos he, if_pos (by omega)]
    simp only [r_X7_read_34, stop]
    refine ⟨nI 0, ?_⟩
    unfold TS
    rw [he]
    show _ = some (Sum.inl none, put am (us (us (us (us M 11 (nI 0)) 12 (nI 0)) 17 (-1)) 9 (nI n)) h)
    rw [e0]
  · rw [if_neg he, if_neg (by omega)]
    have := loop 12 0 (sk x n 0) (fun _ => none) rfl hb
    unfold TS at this
    rw [show encS ((fun _ => none : FV → Option Bool) F) = -1 from rfl, e0] at this
    simp only [r_X7_read_30]
    have hpp : pTx x n 12 (sk x n 0) (fun _ => none) = pTx x n 12 0 (fun _ => none) := by
      rw [pTx, pTx, pTL_sk]
    rw [hpp] at this
    exact this
