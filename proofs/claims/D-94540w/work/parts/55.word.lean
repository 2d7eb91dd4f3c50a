def isL (v : Int32) : Bool := inI v (nI 97) (nI 122)
def wdp (x : Nat → Int32) : Nat → Nat → Nat
  | 0, a => a
  | f + 1, a => if isL (x a) = true then wdp x f (a + 1) else a
/-- where the word that begins at a ends -/
def wd (x : Nat → Int32) (n a : Nat) : Nat := wdp x (n - a) a
theorem wd_end {x : Nat → Int32} {n a : Nat} (h : n ≤ a) : wd x n a = a := by unfold wd; rw [show n - a = 0 by omega]; rfl
theorem wd_no {x : Nat → Int32} {n a : Nat} (h : isL (x a) = false) : wd x n a = a := by
  unfold wd
  cases n - a with
  | zero => rfl
  | succ f => exact if_neg (by rw [h]; decide)
theorem wd_go {x : Nat → Int32} {n a : Nat} (ha : a < n) (h : isL (x a) = true) : wd x n a = wd x n (a + 1) := by
  unfold wd
  rw [show n - a = (n - (a + 1)) + 1 by omega]
  exact if_pos h
theorem wdp_ge {x : Nat → Int32} : ∀ f a, a ≤ wdp x f a ∧ wdp x f a ≤ a + f := by
  intro f
  induction f with
  | zero => intro a; exact ⟨Nat.le_refl _, Nat.le_refl _⟩
  | succ f ih =>
    intro a
    show a ≤ (if isL (x a) = true then wdp x f (a + 1) else a) ∧ (if isL (x a) = true then wdp x f (a + 1) else a) ≤ a + (f + 1)
    have := ih (a + 1)
    split <;> omega
theorem wd_ge {x : Nat → Int32} {n a : Nat} : a ≤ wd x n a := (wdp_ge _ _).1
theorem wd_le {x : Nat → Int32} {n a : Nat} (h : a ≤ n) : wd x n a ≤ n := by have := (wdp_ge (x := x) (n - a) a).2; unfold wd; omega
/-- the word from b to e is w -/
def wq (x : Nat → Int32) (b e : Nat) (w : List Nat) : Bool := decide (e = b + w.length ∧ ∀ i, i < w.length → x (b + i) = nI (w.getD i 0))
/-- the word that comes next behind blanks is w -/
def nxw (x : Nat → Int32) (n a : Nat) (w : List Nat) : Bool := wq x (sk x n a) (wd x n (sk x n a)) w
/-- where one is behind asking for a word -/
def nxa (x : Nat → Int32) (n a : Nat) (w : List Nat) : Nat := bif nxw x n a w then wd x n (sk x n a) else sk x n a
def StrK (h : AH) (am a : Nat) (w : List Nat) : Prop := a < am ∧ ∃ (b : Nat) (bo bo2 : Bool) (hv hz : Value) (f : Nat → Int32), b < am ∧ h.1 a = some (bo, .inr (21, [.ref b, .int 0, hv, hz])) ∧ h.1 b = some (bo2, .inl (1, w.length, .inl f)) ∧ (∀ i c, w[i]? = some c → f i = nI c) ∧ (∀ c ∈ w, c < 128) ∧ w.length < 65536
theorem put_lt {am a : Nat} {M : MS} {h : AH} (ha : a < am) : (put am M h).1 a = h.1 a := by
  show (if a = am then _ else if am < a ∧ a ≤ am + 13 then _ else _) = _
  rw [if_neg (by omega), if_neg (by omega)]
theorem StrK.put {h : AH} {am a : Nat} {w : List Nat} {M : MS} (s : StrK h am a w) : StrAt (put am M h) a w := by
  obtain ⟨h0, b, bo, bo2, hv, hz, f, hb, h1, h2, h3⟩ := s
  exact ⟨b, bo, bo2, hv, hz, f, by rw [put_lt h0]; exact h1, by rw [put_lt hb]; exact h2, h3⟩
theorem KC.put {h : AH} {am : Nat} {M : MS} (s : KC h) : KC (put am M h) := s
theorem StrAt_hci {h : AH} {a : Nat} {w : List Nat} (s : StrAt h a w) : hci h a = some 21 := by
  obtain ⟨b, bo, bo2, hv, hz, f, h1, h2⟩ := s
  unfold hci; rw [h1]
theorem nI_inj {a b : Nat} (ha : a < 2 ^ 31) (hb : b < 2 ^ 31) : (nI a = nI b) = (a = b) := propext (nI_eq ha hb)
theorem S_has0 {d am n wa : Nat} {x : Nat → Int32} {M : MS} {h : AH} {w : List Nat} (hL : Lx M x n) (hk : KC h) (hw : StrK h am wa w) (hwl : w.length < 400) {a : Nat} (ha : a ≤ n) : exec tTab (d + 5) K_X7_has0 [.ref am, .ref wa] (put am (us M 9 (nI a)) h) = some (.inl (some (.int (bI (nxw x n a w)))), put am (us M 9 (nI (nxa x n a w))) h) := by
  have hL' : ∀ v, Lx (us M 9 v) x n := fun v => hL.u (by decide)
  have h8 := hL.1
  have h400 := hL.2.1
  have hb := sk_le (x := x) ha
  have hsk := S_skip (d := d + 2) (am := am) (h := h) hL a ha
  generalize hb0 : sk x n a = b at hb hsk
  have hlen : ∀ M', exec tTab (d + 4) K_J10_length [.ref wa] (put am M' h) = some (.inl (some (.int (nI w.length))), put am M' h) := fun M' => S_length (d := d + 2) hk.put hw.put
  have hci' : ∀ M', hci (put am M' h) wa = some 21 := fun M' => StrAt_hci (hw.put (M := M'))
  have key2 : ∀ j i e, i + j = w.length → e = b + w.length → e ≤ n → (∀ q, q < i → x (b + q) = nI (w.getD q 0)) → R_X7_has0 (d + 4) 55 [some (.ref am), some (.ref wa), some (.int (nI e)), some (.int (nI i))] [] (put am (us M 9 (nI b)) h) = some (.inl (some (.int (bI (wq x b e w)))), put am (us M 9 (nI (bif wq x b e w then e else b))) h) := by
    intro j
    induction j with
    | zero =>
      intro i e hi he hen hq
      have : wq x b e w = true := decide_eq_true ⟨he, fun q hq' => hq q (by omega)⟩
      rw [q_X7_has0_55]
      simp (disch := first | omega | decide) only [e_X7_has0, r_X7_has0_0, r_X7_has0_4, r_X7_has0_8, r_X7_has0_14, r_X7_has0_38, r_X7_has0_17, r_X7_has0_43, r_X7_has0_22, r_X7_has0_48, r_X7_has0_29, r_X7_has0_53, r_X7_has0_51, r_X7_has0_32, r_X7_has0_60, r_X7_has0_89, r_X7_has0_63, r_X7_has0_94, r_X7_has0_68, r_X7_has0_73, r_X7_has0_78, r_X7_has0_83, r_X7_has0_81, aK_ret, aK_thr, Option.bind_some, Option.toList_some, Option.toList_none, List.cons_append, List.nil_append, List.set_cons_zero, List.set_cons_succ, lk1, hci_put, put_2, us_2, ua_1, us_eq, us_ne, ua_eq, ua_ne, uf_eq, uf_ne, us_neD, ua_neD, ua_0, sm_1, sm_2, sm_sm, us_sm, sm_us1, sm_ne, nI_add, pk_mul, add_n0, ret_bI, bI_0, Nat.add_zero, nI10, nI00, ne_eq, eq_self, Bool.true_eq_false, Bool.false_eq_true, cond_true, cond_false, not_false_eq_true, not_true_eq_false, ite_true, ite_false, if_true, if_false, reduceIte, mf_0, mf_1, mf_2, mf_3, mf_4, mf_5, mf_6, mf_7, mf_8, mf_9, mf_10, mf_11, mf_12, mf_13, mf_14, mf_15, mf_16, mf_17, mf_18, mf_19, mf_20, mf_21, mf_22, mf_23, mf_24, mf_25, mf_26, mf_27, mf_28, mp_0, mp_3, mp_6, mp_7, mp_8, mp_9, mp_10, mp_11, mp_12, mp_14, mp_15, mp_16, mp_17, mp_25, mp_26, mp_28, mr_0, mr_1, mr_2, mr_3, mr_4, mr_5, mr_6, mr_7, mr_8, mr_9, mr_10, mr_11, mr_12, mw_0, mw_1, mw_2, mw_3, mw_4, mw_5, mw_6, mw_7, mw_8, mw_9, mw_10, mw_11, mw_12, hci', hlen, nI_leI, show w.length ≤ i by omega, this, us_us, bI_t]
    | succ j ih =>
      intro i e hi he hen hq
      have hs := S_letter (d := d + 3) (am := am) (h := h) (hL' (nI b)) (show b + i < n by omega)
      have hc := S_charAt (d := d) (h := put am (us M 9 (nI b)) h) (a := wa) (w := w) (i := i) (c := w.getD i 0) hk.put hw.put (by rw [List.getD_eq_getElem?_getD, List.getElem?_eq_getElem (by omega)]; rfl)
      rw [q_X7_has0_55]
      simp (disch := first | omega | decide) only [e_X7_has0, r_X7_has0_0, r_X7_has0_4, r_X7_has0_8, r_X7_has0_14, r_X7_has0_38, r_X7_has0_17, r_X7_has0_43, r_X7_has0_22, r_X7_has0_48, r_X7_has0_29, r_X7_has0_53, r_X7_has0_51, r_X7_has0_32, r_X7_has0_60, r_X7_has0_89, r_X7_has0_63, r_X7_has0_94, r_X7_has0_68, r_X7_has0_73, r_X7_has0_78, r_X7_has0_83, r_X7_has0_81, aK_ret, aK_thr, Option.bind_some, Option.toList_some, Option.toList_none, List.cons_append, List.nil_append, List.set_cons_zero, List.set_cons_succ, lk1, hci_put, put_2, us_2, ua_1, us_eq, us_ne, ua_eq, ua_ne, uf_eq, uf_ne, us_neD, ua_neD, ua_0, sm_1, sm_2, sm_sm, us_sm, sm_us1, sm_ne, nI_add, pk_mul, add_n0, ret_bI, bI_0, Nat.add_zero, nI10, nI00, ne_eq, eq_self, Bool.true_eq_false, Bool.false_eq_true, cond_true, cond_false, not_false_eq_true, not_true_eq_false, ite_true, ite_false, if_true, if_false, reduceIte, mf_0, mf_1, mf_2, mf_3, mf_4, mf_5, mf_6, mf_7, mf_8, mf_9, mf_10, mf_11, mf_12, mf_13, mf_14, mf_15, mf_16, mf_17, mf_18, mf_19, mf_20, mf_21, mf_22, mf_23, mf_24, mf_25, mf_26, mf_27, mf_28, mp_0, mp_3, mp_6, mp_7, mp_8, mp_9, mp_10, mp_11, mp_12, mp_14, mp_15, mp_16, mp_17, mp_25, mp_26, mp_28, mr_0, mr_1, mr_2, mr_3, mr_4, mr_5, mr_6, mr_7, mr_8, mr_9, mr_10, mr_11, mr_12, mw_0, mw_1, mw_2, mw_3, mw_4, mw_5, mw_6, mw_7, mw_8, mw_9, mw_10, mw_11, mw_12, hci', hlen, nI_leI, show ¬ w.length ≤ i by omega, hs, hc]
      by_cases hx : x (b + i) = nI (w.getD i 0)
      · rw [if_pos hx]
        refine ih (i + 1) e (by omega) he hen (fun q hq' => ?_)
        by_cases hqi : q = i
        · rw [hqi]; exact hx
        · exact hq q (by omega)
      · have : wq x b e w = false := decide_eq_false (fun hh => hx (hh.2 i (by omega)))
        rw [if_neg hx, this]
        rfl
  have key1 : ∀ j k, k + j = n → b ≤ k → wd x n b = wd x n k → R_X7_has0 (d + 4) 9 [some (.ref am), some (.ref wa), some (.int (nI k)), none] [] (put am (us M 9 (nI b)) h) = some (.inl (some (.int (bI (wq x b (wd x n b) w)))), put am (us M 9 (nI (bif wq x b (wd x n b) w then wd x n b else b))) h) := by
    have fin : ∀ k, b ≤ k → k ≤ n → wd x n b = k → R_X7_has0 (d + 4) 38 [some (.ref am), some (.ref wa), some (.int (nI k)), none] [] (put am (us M 9 (nI b)) h) = some (.inl (some (.int (bI (wq x b (wd x n b) w)))), put am (us M 9 (nI (bif wq x b (wd x n b) w then wd x n b else b))) h) := by
      intro k hbk hkn hk'
      simp (disch := first | omega | decide) only [e_X7_has0, r_X7_has0_0, r_X7_has0_4, r_X7_has0_8, r_X7_has0_14, r_X7_has0_38, r_X7_has0_17, r_X7_has0_43, r_X7_has0_22, r_X7_has0_48, r_X7_has0_29, r_X7_has0_53, r_X7_has0_51, r_X7_has0_32, r_X7_has0_60, r_X7_has0_89, r_X7_has0_63, r_X7_has0_94, r_X7_has0_68, r_X7_has0_73, r_X7_has0_78, r_X7_has0_83, r_X7_has0_81, aK_ret, aK_thr, Option.bind_some, Option.toList_some, Option.toList_none, List.cons_append, List.nil_append, List.set_cons_zero, List.set_cons_succ, lk1, hci_put, put_2, us_2, ua_1, us_eq, us_ne, ua_eq, ua_ne, uf_eq, uf_ne, us_neD, ua_neD, ua_0, sm_1, sm_2, sm_sm, us_sm, sm_us1, sm_ne, nI_add, pk_mul, add_n0, ret_bI, bI_0, Nat.add_zero, nI10, nI00, ne_eq, eq_self, Bool.true_eq_false, Bool.false_eq_true, cond_true, cond_false, not_false_eq_true, not_true_eq_false, ite_true, ite_false, if_true, if_false, reduceIte, mf_0, mf_1, mf_2, mf_3, mf_4, mf_5, mf_6, mf_7, mf_8, mf_9, mf_10, mf_11, mf_12, mf_13, mf_14, mf_15, mf_16, mf_17, mf_18, mf_19, mf_20, mf_21, mf_22, mf_23, mf_24, mf_25, mf_26, mf_27, mf_28, mp_0, mp_3, mp_6, mp_7, mp_8, mp_9, mp_10, mp_11, mp_12, mp_14, mp_15, mp_16, mp_17, mp_25, mp_26, mp_28, mr_0, mr_1, mr_2, mr_3, mr_4, mr_5, mr_6, mr_7, mr_8, mr_9, mr_10, mr_11, mr_12, mw_0, mw_1, mw_2, mw_3, mw_4, mw_5, mw_6, mw_7, mw_8, mw_9, mw_10, mw_11, mw_12, hci', hlen, pk_sub, nI_inj]
      by_cases hl : k - b = w.length
      · rw [if_pos hl, hk']
        exact key2 w.length 0 k (by omega) (by omega) hkn (fun q hq => absurd hq (Nat.not_lt_zero _))
      · have : wq x b (wd x n b) w = false := decide_eq_false (fun hh => hl (by omega))
        rw [if_neg hl, this]
        rfl
    intro j
    induction j with
    | zero =>
      intro k hkn hbk hwk
      have hwe : wd x n k = k := wd_end (by omega)
      rw [q_X7_has0_9]
      simp (disch := first | omega | decide) only [r_X7_has0_14, aK_ret, aK_thr, Option.bind_some, Option.toList_some, Option.toList_none, List.cons_append, List.nil_append, List.set_cons_zero, List.set_cons_succ, lk1, hci_put, put_2, us_2, ua_1, us_eq, us_ne, ua_eq, ua_ne, uf_eq, uf_ne, us_neD, ua_neD, ua_0, sm_1, sm_2, sm_sm, us_sm, sm_us1, sm_ne, nI_add, pk_mul, add_n0, ret_bI, bI_0, Nat.add_zero, nI10, nI00, ne_eq, eq_self, Bool.true_eq_false, Bool.false_eq_true, cond_true, cond_false, not_false_eq_true, not_true_eq_false, ite_true, ite_false, if_true, if_false, reduceIte, mf_0, mf_1, mf_2, mf_3, mf_4, mf_5, mf_6, mf_7, mf_8, mf_9, mf_10, mf_11, mf_12, mf_13, mf_14, mf_15, mf_16, mf_17, mf_18, mf_19, mf_20, mf_21, mf_22, mf_23, mf_24, mf_25, mf_26, mf_27, mf_28, mp_0, mp_3, mp_6, mp_7, mp_8, mp_9, mp_10, mp_11, mp_12, mp_14, mp_15, mp_16, mp_17, mp_25, mp_26, mp_28, mr_0, mr_1, mr_2, mr_3, mr_4, mr_5, mr_6, mr_7, mr_8, mr_9, mr_10, mr_11, mr_12, mw_0, mw_1, mw_2, mw_3, mw_4, mw_5, mw_6, mw_7, mw_8, mw_9, mw_10, mw_11, mw_12, h8, nI_leI, show n ≤ k by omega]
      exact fin k hbk (by omega) (by rw [hwk, hwe])
    | succ j ih =>
      intro k hkn hbk hwk
      have hs := S_letter (d := d + 3) (am := am) (h := h) (hL' (nI b)) (show k < n by omega)
      rw [q_X7_has0_9]
      simp (disch := first | omega | decide) only [r_X7_has0_14, r_X7_has0_17, r_X7_has0_22, r_X7_has0_29, r_X7_has0_32, aK_ret, aK_thr, Option.bind_some, Option.toList_some, Option.toList_none, List.cons_append, List.nil_append, List.set_cons_zero, List.set_cons_succ, lk1, hci_put, put_2, us_2, ua_1, us_eq, us_ne, ua_eq, ua_ne, uf_eq, uf_ne, us_neD, ua_neD, ua_0, sm_1, sm_2, sm_sm, us_sm, sm_us1, sm_ne, nI_add, pk_mul, add_n0, ret_bI, bI_0, Nat.add_zero, nI10, nI00, ne_eq, eq_self, Bool.true_eq_false, Bool.false_eq_true, cond_true, cond_false, not_false_eq_true, not_true_eq_false, ite_true, ite_false, if_true, if_false, reduceIte, mf_0, mf_1, mf_2, mf_3, mf_4, mf_5, mf_6, mf_7, mf_8, mf_9, mf_10, mf_11, mf_12, mf_13, mf_14, mf_15, mf_16, mf_17, mf_18, mf_19, mf_20, mf_21, mf_22, mf_23, mf_24, mf_25, mf_26, mf_27, mf_28, mp_0, mp_3, mp_6, mp_7, mp_8, mp_9, mp_10, mp_11, mp_12, mp_14, mp_15, mp_16, mp_17, mp_25, mp_26, mp_28, mr_0, mr_1, mr_2, mr_3, mr_4, mr_5, mr_6, mr_7, mr_8, mr_9, mr_10, mr_11, mr_12, mw_0, mw_1, mw_2, mw_3, mw_4, mw_5, mw_6, mw_7, mw_8, mw_9, mw_10, mw_11, mw_12, h8, nI_leI, show ¬ n ≤ k by omega, hs, S_isIn]
      cases hx : isL (x k) with
      | false =>
        rw [if_pos (show inI (x k) (nI 97) (nI 122) = false from hx)]
        exact fin k hbk (by omega) (by rw [hwk, wd_no hx])
      | true =>
        rw [if_neg (by rw [show inI (x k) (nI 97) (nI 122) = true from hx]; decide)]
        exact ih (k + 1) (by omega) (by omega) (by rw [hwk, wd_go (by omega) hx])
  unfold nxa nxw
  rw [hb0]
  simp (disch := first | omega | decide) only [e_X7_has0, r_X7_has0_0, r_X7_has0_4, r_X7_has0_8, r_X7_has0_14, r_X7_has0_38, r_X7_has0_17, r_X7_has0_43, r_X7_has0_22, r_X7_has0_48, r_X7_has0_29, r_X7_has0_53, r_X7_has0_51, r_X7_has0_32, r_X7_has0_60, r_X7_has0_89, r_X7_has0_63, r_X7_has0_94, r_X7_has0_68, r_X7_has0_73, r_X7_has0_78, r_X7_has0_83, r_X7_has0_81, aK_ret, aK_thr, Option.bind_some, Option.toList_some, Option.toList_none, List.cons_append, List.nil_append, List.set_cons_zero, List.set_cons_succ, lk1, hci_put, put_2, us_2, ua_1, us_eq, us_ne, ua_eq, ua_ne, uf_eq, uf_ne, us_neD, ua_neD, ua_0, sm_1, sm_2, sm_sm, us_sm, sm_us1, sm_ne, nI_add, pk_mul, add_n0, ret_bI, bI_0, Nat.add_zero, nI10, nI00, ne_eq, eq_self, Bool.true_eq_false, Bool.false_eq_true, cond_true, cond_false, not_false_eq_true, not_true_eq_false, ite_true, ite_false, if_true, if_false, reduceIte, mf_0, mf_1, mf_2, mf_3, mf_4, mf_5, mf_6, mf_7, mf_8, mf_9, mf_10, mf_11, mf_12, mf_13, mf_14, mf_15, mf_16, mf_17, mf_18, mf_19, mf_20, mf_21, mf_22, mf_23, mf_24, mf_25, mf_26, mf_27, mf_28, mp_0, mp_3, mp_6, mp_7, mp_8, mp_9, mp_10, mp_11, mp_12, mp_14, mp_15, mp_16, mp_17, mp_25, mp_26, mp_28, mr_0, mr_1, mr_2, mr_3, mr_4, mr_5, mr_6, mr_7, mr_8, mr_9, mr_10, mr_11, mr_12, mw_0, mw_1, mw_2, mw_3, mw_4, mw_5, mw_6, mw_7, mw_8, mw_9, mw_10, mw_11, mw_12, hsk]
  exact key1 (n - b) b (by omega) (Nat.le_refl _) rfl
