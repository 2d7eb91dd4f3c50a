/-! ===== the model: whether one takes a favour ===== -/
/-- all but what is asked and said is as it was -/
def Sc (M M' : MS) : Prop := (∀ j, j ≠ 4 → M'.2 j = M.2 j) ∧ ∀ k, k ≠ 11 → k ≠ 14 → k ≠ 15 → k ≠ 16 → k ≠ 17 → M'.1 k = M.1 k
theorem Sc.rfl' {M : MS} : Sc M M := ⟨fun _ _ => rfl, fun _ _ _ _ _ _ => rfl⟩
theorem Sc.trans {M M' M'' : MS} (a : Sc M M') (b : Sc M' M'') : Sc M M'' := ⟨fun j h => (b.1 j h).trans (a.1 j h), fun k h1 h2 h3 h4 h5 => (b.2 k h1 h2 h3 h4 h5).trans (a.2 k h1 h2 h3 h4 h5)⟩
/-- what a temper says -/
def tden (m : Nat → Int32) (t : Nat) : FV → Option Bool := match pText (fun k => m (940 + 401 * t + 1 + k)) (m (940 + 401 * t)).toNatClampNeg with
  | .inl z => z.2
  | .inr _ => fun _ => none
/-- a text that is kept is right -/
def VT (m : Nat → Int32) (t : Nat) : Prop := t < 6 ∧ ∃ L, m (940 + 401 * t) = nI L ∧ L ≤ 400 ∧ ∃ z, pText (fun k => m (940 + 401 * t + 1 + k)) L = .inl z
def fvw (m : Nat → Int32) (N p g : Nat) (n hd ends : Int32) (again : Bool) : FV := (fun k => [sp_worth n hd / nI 1024, n, hd, if ends = -1 then nI 999 else ends - m 6, sp_rich m N (nI p) / nI 1024, sp_debt m N (nI g)].getD k 0, sp_near m g (nI p), !decide (ends = -1), again)
def sp_take (m : Nat → Int32) (N p g : Nat) (n hd ends : Int32) (forced again : Bool) : Bool := forced || decide (m (10 + 3 * p + 1) = -1) || (tden m (m (10 + 3 * p + 1)).toNatClampNeg (fvw m N p g n hd ends again) == some true)
theorem S_wouldTake {d am N p g : Nat} {n hd ends : Int32} {forced again : Bool} {M : MS} {h : AH} (hK : KS h am) (hN : M.2 0 3 = nI N) (h40 : N ≤ 40) (hp : p < 12) (hg : g < 12) (hT : M.2 0 (10 + 3 * p + 1) = -1 ∨ ∃ t, M.2 0 (10 + 3 * p + 1) = nI t ∧ VT (M.2 0) t) : ∃ M', Sc M M' ∧ exec tTab (d + 32) K_X7_wouldTake [.ref am, .int (nI p), .int (nI g), .int n, .int hd, .int ends, .int (bI forced), .int (bI again)] (put am M h) = some (.inl (some (.int (bI (sp_take (M.2 0) N p g n hd ends forced again)))), put am M' h) := by
  unfold sp_take
  cases forced with
  | true =>
    refine ⟨M, Sc.rfl', ?_⟩
    simp (disch := first | omega | decide) only [e_X7_wouldTake, r_X7_wouldTake_0, r_X7_wouldTake_4, r_X7_wouldTake_13, r_X7_wouldTake_26, aK_ret, aK_thr, Option.bind_some, Option.toList_some, Option.toList_none, List.cons_append, List.nil_append, List.set_cons_zero, List.set_cons_succ, lk1, hci_put, put_2, us_2, ua_1, us_eq, us_ne, ua_eq, ua_ne, uf_eq, uf_ne, us_neD, ua_neD, ua_0, sm_1, sm_2, sm_sm, us_sm, sm_us1, sm_ne, nI_add, pk_mul, add_n0, ret_bI, bI_0, Nat.add_zero, nI10, nI00, ne_eq, eq_self, Bool.true_eq_false, Bool.false_eq_true, cond_true, cond_false, not_false_eq_true, not_true_eq_false, ite_true, ite_false, if_true, if_false, reduceIte, mf_0, mf_1, mf_2, mf_3, mf_4, mf_5, mf_6, mf_7, mf_8, mf_9, mf_10, mf_11, mf_12, mf_13, mf_14, mf_15, mf_16, mf_17, mf_18, mf_19, mf_20, mf_21, mf_22, mf_23, mf_24, mf_25, mf_26, mf_27, mf_28, mp_0, mp_3, mp_6, mp_7, mp_8, mp_9, mp_10, mp_11, mp_12, mp_14, mp_15, mp_16, mp_17, mp_25, mp_26, mp_28, mr_0, mr_1, mr_2, mr_3, mr_4, mr_5, mr_6, mr_7, mr_8, mr_9, mr_10, mr_11, mr_12, mw_0, mw_1, mw_2, mw_3, mw_4, mw_5, mw_6, mw_7, mw_8, mw_9, mw_10, mw_11, mw_12, Bool.true_or, bI_t]
  | false =>
    rcases hT with ht | ⟨t, ht, h6, L, hm, hL, z, hz⟩
    · refine ⟨M, Sc.rfl', ?_⟩
      simp (disch := first | omega | decide) only [e_X7_wouldTake, r_X7_wouldTake_0, r_X7_wouldTake_4, r_X7_wouldTake_13, r_X7_wouldTake_20, r_X7_wouldTake_26, aK_ret, aK_thr, Option.bind_some, Option.toList_some, Option.toList_none, List.cons_append, List.nil_append, List.set_cons_zero, List.set_cons_succ, lk1, hci_put, put_2, us_2, ua_1, us_eq, us_ne, ua_eq, ua_ne, uf_eq, uf_ne, us_neD, ua_neD, ua_0, sm_1, sm_2, sm_sm, us_sm, sm_us1, sm_ne, nI_add, pk_mul, add_n0, ret_bI, bI_0, Nat.add_zero, nI10, nI00, ne_eq, eq_self, Bool.true_eq_false, Bool.false_eq_true, cond_true, cond_false, not_false_eq_true, not_true_eq_false, ite_true, ite_false, if_true, if_false, reduceIte, mf_0, mf_1, mf_2, mf_3, mf_4, mf_5, mf_6, mf_7, mf_8, mf_9, mf_10, mf_11, mf_12, mf_13, mf_14, mf_15, mf_16, mf_17, mf_18, mf_19, mf_20, mf_21, mf_22, mf_23, mf_24, mf_25, mf_26, mf_27, mf_28, mp_0, mp_3, mp_6, mp_7, mp_8, mp_9, mp_10, mp_11, mp_12, mp_14, mp_15, mp_16, mp_17, mp_25, mp_26, mp_28, mr_0, mr_1, mr_2, mr_3, mr_4, mr_5, mr_6, mr_7, mr_8, mr_9, mr_10, mr_11, mr_12, mw_0, mw_1, mw_2, mw_3, mw_4, mw_5, mw_6, mw_7, mw_8, mw_9, mw_10, mw_11, mw_12, ht, Bool.false_or, decide_true, Bool.true_or, bI_t]
    · have hd' : tden (M.2 0) t = z.2 := by
        unfold tden
        rw [hm, nI_clamp (by omega), hz]
      simp only [ht, nI_clamp (show t < 2 ^ 31 by omega), hd', nIm (show t < 2 ^ 31 by omega), decide_false, Bool.false_or]
      generalize hFV : fvw (M.2 0) N p g n hd ends again = F
      have main : ∀ v3, v3 = (if ends = -1 then nI 999 else ends - M.2 0 6) → ∀ bt, bt = !decide (ends = -1) → ∃ M', Sc M M' ∧ R_X7_wouldTake (d + 31) 144 [some (.ref am), some (.int (nI p)), some (.int (nI g)), some (.int n), some (.int hd), some (.int ends), some (.int (bI false)), some (.int (bI again)), some (.int (nI t)), none, none, none, none, none] [] (put am (us (us (us (ua (ua (ua (ua (ua (ua M 4 0 (sp_worth n hd / nI 1024)) 4 1 n) 4 2 hd) 4 3 v3) 4 4 (sp_rich (M.2 0) N (nI p) / nI 1024)) 4 5 (sp_debt (M.2 0) N (nI g))) 14 (bI (sp_near (M.2 0) g (nI p)))) 15 (bI bt)) 16 (bI again)) h) = some (.inl (some (.int (bI (z.2 F == some true)))), put am M' h) := by
        intro v3 h3 bt hbt
        generalize hM1 : (us (us (us (ua (ua (ua (ua (ua (ua M 4 0 (sp_worth n hd / nI 1024)) 4 1 n) 4 2 hd) 4 3 v3) 4 4 (sp_rich (M.2 0) N (nI p) / nI 1024)) 4 5 (sp_debt (M.2 0) N (nI g))) 14 (bI (sp_near (M.2 0) g (nI p)))) 15 (bI bt)) 16 (bI again)) = M1
        have q0 : ∀ j, j ≠ 4 → M1.2 j = M.2 j := by
          intro j hj
          rw [← hM1]
          simp only [us_2]
          rw [ua_ne hj, ua_ne hj, ua_ne hj, ua_ne hj, ua_ne hj, ua_ne hj]
        have qF : FM M1 F := by
          rw [← hM1, ← hFV]
          refine ⟨fun k hk => ?_, ?_, ?_, ?_⟩
          · simp only [us_2, ua_eq, fvw, h3]
            match k, hk with
            | 0, _ => simp (disch := decide) only [uf_eq, uf_ne]; rfl
            | 1, _ => simp (disch := decide) only [uf_eq, uf_ne]; rfl
            | 2, _ => simp (disch := decide) only [uf_eq, uf_ne]; rfl
            | 3, _ => simp (disch := decide) only [uf_eq, uf_ne]; rfl
            | 4, _ => simp (disch := decide) only [uf_eq, uf_ne]; rfl
            | 5, _ => simp (disch := decide) only [uf_eq, uf_ne]; rfl
          · simp (disch := decide) only [us_eq, us_neD, fvw]
          · simp (disch := decide) only [us_eq, us_neD, fvw, hbt]
          · simp (disch := decide) only [us_eq, us_neD, fvw]
        have q1 : ∀ k, k ≠ 14 → k ≠ 15 → k ≠ 16 → M1.1 k = M.1 k := by
          intro k k1 k2 k3
          rw [← hM1, us_ne k3, us_ne k2, us_ne k1]
          rfl
        clear hM1
        have q00 : M1.2 0 = M.2 0 := q0 0 (by decide)
        have hLx : Lx (us (us (us (us M1 10 (-1)) 7 (nI (940 + 401 * t + 1))) 8 (nI L)) 17 (-1)) (fun k => M.2 0 (940 + 401 * t + 1 + k)) L := by
          refine ⟨?_, hL, Or.inr ⟨940 + 401 * t + 1, ?_, by omega, ?_⟩⟩
          · simp (disch := decide) only [us_eq, us_neD]
          · simp (disch := decide) only [us_eq, us_neD]
          · simp only [us_2, q00]
        have hr := S_readT (d := d) (am := am) (h := h) hLx (F := F) (by simp (disch := decide) only [us_eq, us_neD]) ((((qF.u (by decide)).u (by decide)).u (by decide)).u (by decide)) (by simp (disch := decide) only [us_eq, us_neD]) hK
        rw [hz] at hr
        obtain ⟨l, e⟩ := hr
        unfold TS at e
        refine ⟨us (us (us (us (us (us (us (us (us (us (us (us (us M1 10 (-1)) 7 (nI (940 + 401 * t + 1))) 8 (nI L)) 17 (-1)) 11 (nI 0)) 12 l) 17 (encS (z.2 F))) 9 (nI z.1)) 10 (M1.1 10)) 7 (M1.1 7)) 8 (M1.1 8)) 9 (M1.1 9)) 12 (M1.1 12), ⟨fun j hj => by simp only [us_2]; exact q0 j hj, ?_⟩, ?_⟩
        · intro k k1 k2 k3 k4 k5
          rw [← q1 k k2 k3 k4]
          simp only [us]
          repeat (first | (split; first | (next hh => rw [hh]) | (next hh => omega)) | rfl)
        · have fin : ∀ H, R_X7_wouldTake (d + 31) 254 [some (.ref am), some (.int (nI p)), some (.int (nI g)), some (.int n), some (.int hd), some (.int ends), some (.int (bI false)), some (.int (bI again)), some (.int (nI t)), some (.int (M1.1 10)), some (.int (M1.1 7)), some (.int (M1.1 8)), some (.int (M1.1 9)), some (.int (M1.1 12))] [.int (encS (z.2 F))] H = some (.inl (some (.int (bI (z.2 F == some true)))), H) := by
            intro H
            rcases z.2 F with _ | _ | _
            · simp only [r_X7_wouldTake_254, r_X7_wouldTake_262, encS, show (-1 : Int32) = nI 1 ↔ False by decide, not_false_eq_true, if_true]; rfl
            · simp only [r_X7_wouldTake_254, r_X7_wouldTake_262, encS, show bI false = nI 1 ↔ False by decide, not_false_eq_true, if_true]; rfl
            · simp only [r_X7_wouldTake_254, r_X7_wouldTake_258, encS, show bI true = nI 1 ↔ True by decide, not_true_eq_false, if_false]; rfl
          have hm1 : nI (940 + 401 * t + 1) - nI 1 = nI (940 + 401 * t) := by rw [pk_sub (by omega)]; rfl
          simp (disch := first | omega | decide) only [r_X7_wouldTake_144, r_X7_wouldTake_148, r_X7_wouldTake_154, r_X7_wouldTake_160, r_X7_wouldTake_166, r_X7_wouldTake_172, r_X7_wouldTake_179, r_X7_wouldTake_195, r_X7_wouldTake_200, r_X7_wouldTake_204, r_X7_wouldTake_207, r_X7_wouldTake_210, r_X7_wouldTake_215, r_X7_wouldTake_220, r_X7_wouldTake_226, r_X7_wouldTake_232, r_X7_wouldTake_238, r_X7_wouldTake_244, r_X7_wouldTake_250, aK_ret, aK_thr, Option.bind_some, Option.toList_some, Option.toList_none, List.cons_append, List.nil_append, List.set_cons_zero, List.set_cons_succ, lk1, hci_put, put_2, us_2, ua_1, us_eq, us_ne, ua_eq, ua_ne, uf_eq, uf_ne, us_neD, ua_neD, ua_0, sm_1, sm_2, sm_sm, us_sm, sm_us1, sm_ne, nI_add, pk_mul, add_n0, ret_bI, bI_0, Nat.add_zero, nI10, nI00, ne_eq, eq_self, Bool.true_eq_false, Bool.false_eq_true, cond_true, cond_false, not_false_eq_true, not_true_eq_false, ite_true, ite_false, if_true, if_false, reduceIte, mf_0, mf_1, mf_2, mf_3, mf_4, mf_5, mf_6, mf_7, mf_8, mf_9, mf_10, mf_11, mf_12, mf_13, mf_14, mf_15, mf_16, mf_17, mf_18, mf_19, mf_20, mf_21, mf_22, mf_23, mf_24, mf_25, mf_26, mf_27, mf_28, mp_0, mp_3, mp_6, mp_7, mp_8, mp_9, mp_10, mp_11, mp_12, mp_14, mp_15, mp_16, mp_17, mp_25, mp_26, mp_28, mr_0, mr_1, mr_2, mr_3, mr_4, mr_5, mr_6, mr_7, mr_8, mr_9, mr_10, mr_11, mr_12, mw_0, mw_1, mw_2, mw_3, mw_4, mw_5, mw_6, mw_7, mw_8, mw_9, mw_10, mw_11, mw_12, hm1, q00, hm, e, fin]
      have hr : ∀ M1 : MS, M1.2 0 = M.2 0 → exec tTab (d + 31) K_X7_richOf [.ref am, .int (nI p)] (put am M1 h) = some (.inl (some (.int (sp_rich (M.2 0) N (nI p)))), put am M1 h) := fun M1 e => by
        rw [← e]; exact S_richOf (d := d + 29) (by rw [e]; exact hN) h40
      have hdb : ∀ M1 : MS, M1.2 0 = M.2 0 → exec tTab (d + 31) K_X7_debtOf [.ref am, .int (nI g)] (put am M1 h) = some (.inl (some (.int (sp_debt (M.2 0) N (nI g)))), put am M1 h) := fun M1 e => by
        rw [← e]; exact S_debtOf (d := d + 29) (by rw [e]; exact hN) h40
      have hnr : ∀ M1 : MS, M1.2 0 = M.2 0 → exec tTab (d + 31) K_X7_isNearTo [.ref am, .int (nI g), .int (nI p)] (put am M1 h) = some (.inl (some (.int (bI (sp_near (M.2 0) g (nI p))))), put am M1 h) := fun M1 e => by
        rw [← e]; exact S_isNearTo (d := d + 30) hg
      by_cases he : ends = -1
      · obtain ⟨M', hSc, e⟩ := main (nI 999) (by rw [if_pos he]) false (by simp [he])
        refine ⟨M', hSc, ?_⟩
        rw [← e]
        simp (disch := first | omega | decide | (simp (disch := decide) only [us_2, ua_neD])) only [e_X7_wouldTake, r_X7_wouldTake_0, r_X7_wouldTake_4, r_X7_wouldTake_13, r_X7_wouldTake_20, r_X7_wouldTake_28, r_X7_wouldTake_32, r_X7_wouldTake_39, r_X7_wouldTake_44, r_X7_wouldTake_48, r_X7_wouldTake_51, r_X7_wouldTake_55, r_X7_wouldTake_59, r_X7_wouldTake_63, r_X7_wouldTake_70, r_X7_wouldTake_87, r_X7_wouldTake_91, r_X7_wouldTake_97, r_X7_wouldTake_102, r_X7_wouldTake_106, r_X7_wouldTake_112, r_X7_wouldTake_113, r_X7_wouldTake_120, r_X7_wouldTake_123, r_X7_wouldTake_134, r_X7_wouldTake_138, aK_ret, aK_thr, Option.bind_some, Option.toList_some, Option.toList_none, List.cons_append, List.nil_append, List.set_cons_zero, List.set_cons_succ, lk1, hci_put, put_2, us_2, ua_1, us_eq, us_ne, ua_eq, ua_ne, uf_eq, uf_ne, us_neD, ua_neD, ua_0, sm_1, sm_2, sm_sm, us_sm, sm_us1, sm_ne, nI_add, pk_mul, add_n0, ret_bI, bI_0, Nat.add_zero, nI10, nI00, ne_eq, eq_self, Bool.true_eq_false, Bool.false_eq_true, cond_true, cond_false, not_false_eq_true, not_true_eq_false, ite_true, ite_false, if_true, if_false, reduceIte, mf_0, mf_1, mf_2, mf_3, mf_4, mf_5, mf_6, mf_7, mf_8, mf_9, mf_10, mf_11, mf_12, mf_13, mf_14, mf_15, mf_16, mf_17, mf_18, mf_19, mf_20, mf_21, mf_22, mf_23, mf_24, mf_25, mf_26, mf_27, mf_28, mp_0, mp_3, mp_6, mp_7, mp_8, mp_9, mp_10, mp_11, mp_12, mp_14, mp_15, mp_16, mp_17, mp_25, mp_26, mp_28, mr_0, mr_1, mr_2, mr_3, mr_4, mr_5, mr_6, mr_7, mr_8, mr_9, mr_10, mr_11, mr_12, mw_0, mw_1, mw_2, mw_3, mw_4, mw_5, mw_6, mw_7, mw_8, mw_9, mw_10, mw_11, mw_12, S_worthOf, ht, nIm, he, hr, hdb, hnr, bI_vZ, bI_f, nI00, show vZ (.int (nI 0)) = true by decide]
      · obtain ⟨M', hSc, e⟩ := main (ends - M.2 0 6) (by rw [if_neg he]) true (by simp [he])
        refine ⟨M', hSc, ?_⟩
        rw [← e]
        simp (disch := first | omega | decide | (simp (disch := decide) only [us_2, ua_neD])) only [e_X7_wouldTake, r_X7_wouldTake_0, r_X7_wouldTake_4, r_X7_wouldTake_13, r_X7_wouldTake_20, r_X7_wouldTake_28, r_X7_wouldTake_32, r_X7_wouldTake_39, r_X7_wouldTake_44, r_X7_wouldTake_48, r_X7_wouldTake_51, r_X7_wouldTake_55, r_X7_wouldTake_59, r_X7_wouldTake_63, r_X7_wouldTake_76, r_X7_wouldTake_82, r_X7_wouldTake_85, r_X7_wouldTake_87, r_X7_wouldTake_91, r_X7_wouldTake_97, r_X7_wouldTake_102, r_X7_wouldTake_106, r_X7_wouldTake_112, r_X7_wouldTake_113, r_X7_wouldTake_120, r_X7_wouldTake_123, r_X7_wouldTake_130, r_X7_wouldTake_138, aK_ret, aK_thr, Option.bind_some, Option.toList_some, Option.toList_none, List.cons_append, List.nil_append, List.set_cons_zero, List.set_cons_succ, lk1, hci_put, put_2, us_2, ua_1, us_eq, us_ne, ua_eq, ua_ne, uf_eq, uf_ne, us_neD, ua_neD, ua_0, sm_1, sm_2, sm_sm, us_sm, sm_us1, sm_ne, nI_add, pk_mul, add_n0, ret_bI, bI_0, Nat.add_zero, nI10, nI00, ne_eq, eq_self, Bool.true_eq_false, Bool.false_eq_true, cond_true, cond_false, not_false_eq_true, not_true_eq_false, ite_true, ite_false, if_true, if_false, reduceIte, mf_0, mf_1, mf_2, mf_3, mf_4, mf_5, mf_6, mf_7, mf_8, mf_9, mf_10, mf_11, mf_12, mf_13, mf_14, mf_15, mf_16, mf_17, mf_18, mf_19, mf_20, mf_21, mf_22, mf_23, mf_24, mf_25, mf_26, mf_27, mf_28, mp_0, mp_3, mp_6, mp_7, mp_8, mp_9, mp_10, mp_11, mp_12, mp_14, mp_15, mp_16, mp_17, mp_25, mp_26, mp_28, mr_0, mr_1, mr_2, mr_3, mr_4, mr_5, mr_6, mr_7, mr_8, mr_9, mr_10, mr_11, mr_12, mw_0, mw_1, mw_2, mw_3, mw_4, mw_5, mw_6, mw_7, mw_8, mw_9, mw_10, mw_11, mw_12, S_worthOf, ht, nIm, he, hr, hdb, hnr, bI_vZ, bI_t, show vZ (.int (nI 1)) = true by decide]
