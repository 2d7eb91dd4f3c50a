/-! ===== PURE: the grammar of tempers; denotations ===== -/
/-- what a temper is asked: facts by number; near, timed, again -/
abbrev FV : Type := (Nat → Int32) × Bool × Bool × Bool
/-- where one goes on, and what it means; or the first wrong byte -/
abbrev Res (α : Type) : Type := (Nat × (FV → α)) ⊕ Nat
def w_worth : List Nat := [119, 111, 114, 116, 104]
def w_amount : List Nat := [97, 109, 111, 117, 110, 116]
def w_hands : List Nat := [104, 97, 110, 100, 115]
def w_left : List Nat := [108, 101, 102, 116]
def w_owed : List Nat := [111, 119, 101, 100]
def w_debt : List Nat := [100, 101, 98, 116]
def w_near : List Nat := [110, 101, 97, 114]
def w_timed : List Nat := [116, 105, 109, 101, 100]
def w_again : List Nat := [97, 103, 97, 105, 110]
def w_not : List Nat := [110, 111, 116]
def w_and : List Nat := [97, 110, 100]
def w_or : List Nat := [111, 114]
def w_if : List Nat := [105, 102]
def w_take : List Nat := [116, 97, 107, 101]
def w_refuse : List Nat := [114, 101, 102, 117, 115, 101]
def pPart (x : Nat → Int32) (n a : Nat) : Res Int32 :=
  if sk x n a < n ∧ isD (x (sk x n a)) = true then
    (bif fgo x n (sk x n a) (nI 0) (nI 999) then .inl ((fg x n (sk x n a)).1, fun _ => (fg x n (sk x n a)).2) else .inr (sk x n a))
  else if nxw x n a w_worth = true then .inl (nxa x n a w_worth, fun F => F.1 0)
  else if nxw x n a w_amount = true then .inl (nxa x n a w_amount, fun F => F.1 1)
  else if nxw x n a w_hands = true then .inl (nxa x n a w_hands, fun F => F.1 2)
  else if nxw x n a w_left = true then .inl (nxa x n a w_left, fun F => F.1 3)
  else if nxw x n a w_owed = true then .inl (nxa x n a w_owed, fun F => F.1 4)
  else if nxw x n a w_debt = true then .inl (nxa x n a w_debt, fun F => F.1 5)
  else .inr (sk x n a)
def loopT {α : Type} (item : Nat → Res α) (con : Nat → Bool) (cont stop : Nat → Nat) (op : α → α → α) : Nat → Nat → (FV → α) → Res α
  | 0, a, _ => .inr a
  | f + 1, a, acc => bif con a then (match item (cont a) with
    | .inr q => .inr q
    | .inl (a1, d) => loopT item con cont stop op f a1 (fun F => op (acc F) (d F))) else .inl (stop a, acc)
def loopP {α : Type} (item : Nat → Res α) (con : Nat → Bool) (cont stop : Nat → Nat) (op : α → α → α) (f a : Nat) : Res α := match item a with
  | .inr q => .inr q
  | .inl (a1, d) => loopT item con cont stop op f a1 d
def pSum (x : Nat → Int32) (n a : Nat) : Res Int32 := loopP (pPart x n) (fun a => nxs x n a (nI 43)) (fun a => sk x n a + 1) (sk x n) (fun u v => u + v) (n + 1) a
def pPlain (x : Nat → Int32) (n a : Nat) : Res Bool :=
  if nxw x n a w_near = true then .inl (nxa x n a w_near, fun F => F.2.1)
  else if nxw x n a w_timed = true then .inl (nxa x n a w_timed, fun F => F.2.2.1)
  else if nxw x n a w_again = true then .inl (nxa x n a w_again, fun F => F.2.2.2)
  else match pSum x n a with
    | .inr q => .inr q
    | .inl (a1, u) =>
      bif nxs x n a1 (nI 60) then (match pSum x n (sk x n a1 + 1) with
        | .inr q => .inr q
        | .inl (a2, v) => .inl (a2, fun F => decide (u F < v F)))
      else bif nxs x n a1 (nI 62) then (match pSum x n (sk x n a1 + 1) with
        | .inr q => .inr q
        | .inl (a2, v) => .inl (a2, fun F => decide (v F < u F)))
      else .inr (sk x n a1)
def pAtomF (x : Nat → Int32) (n : Nat) (sub : Option ((Nat → Res Bool) × (Nat → Res Bool))) (a : Nat) : Res Bool :=
  bif !nxw x n a w_not && !nxs x n a (nI 40) then pPlain x n a
  else match sub with
    | none => .inr (sk x n a)
    | some s => bif nxw x n a w_not then (match s.1 (nxa x n a w_not) with
        | .inr q => .inr q
        | .inl (a1, d) => .inl (a1, fun F => !d F))
      else (match s.2 (sk x n a + 1) with
        | .inr q => .inr q
        | .inl (a1, d) => bif nxs x n a1 (nI 41) then .inl (sk x n a1 + 1, d) else .inr (sk x n a1))
def pEveryF (x : Nat → Int32) (n : Nat) (atom : Nat → Res Bool) (a : Nat) : Res Bool := loopP atom (fun a => nxw x n a w_and) (fun a => nxa x n a w_and) (sk x n) (fun u v => u && v) (n + 1) a
def pSomeF (x : Nat → Int32) (n : Nat) (atom : Nat → Res Bool) (a : Nat) : Res Bool := loopP (pEveryF x n atom) (fun a => nxw x n a w_or) (fun a => nxa x n a w_or) (sk x n) (fun u v => u || v) (n + 1) a
/-- atoms and conditions, so many levels still being allowed -/
def pLev (x : Nat → Int32) (n : Nat) : Nat → (Nat → Res Bool) × (Nat → Res Bool)
  | 0 => (pAtomF x n none, pSomeF x n (pAtomF x n none))
  | r + 1 => (pAtomF x n (some (pLev x n r)), pSomeF x n (pAtomF x n (some (pLev x n r))))
/-- what succeeds goes on behind -/
def Adv {α : Type} (n : Nat) (p : Nat → Res α) : Prop := ∀ a a1 d, a ≤ n → p a = .inl (a1, d) → a < a1 ∧ a1 ≤ n
theorem nxw_len {x : Nat → Int32} {n a : Nat} {w : List Nat} (h : nxw x n a w = true) : nxa x n a w = sk x n a + w.length := by
  unfold nxa
  rw [h]
  exact (of_decide_eq_true h).1
theorem nxw_sk {x : Nat → Int32} {n a : Nat} {w : List Nat} : nxw x n (sk x n a) w = nxw x n a w := by unfold nxw; rw [sk_sk]
theorem nxa_sk {x : Nat → Int32} {n a : Nat} {w : List Nat} : nxa x n (sk x n a) w = nxa x n a w := by unfold nxa; rw [nxw_sk, sk_sk]
theorem nxs_sk {x : Nat → Int32} {n a : Nat} {c : Int32} : nxs x n (sk x n a) c = nxs x n a c := by unfold nxs; rw [sk_sk]
theorem nxw_adv {x : Nat → Int32} {n a : Nat} {w : List Nat} (ha : a ≤ n) (h : nxw x n a w = true) : a + w.length ≤ nxa x n a w ∧ nxa x n a w ≤ n := by
  refine ⟨by rw [nxw_len h]; have := sk_ge (x := x) (n := n) (a := a); omega, ?_⟩
  unfold nxa
  rw [h]
  exact wd_le (sk_le ha)
theorem nxs_adv {x : Nat → Int32} {n a : Nat} {c : Int32} (h : nxs x n a c = true) : sk x n a + 1 ≤ n := (of_decide_eq_true h).1
theorem pPart_adv {x : Nat → Int32} {n : Nat} : Adv n (pPart x n) := by
  intro a a1 d ha h
  have h1 := sk_ge (x := x) (n := n) (a := a)
  have h2 := sk_le (x := x) ha
  have h3 := fg_ge (x := x) h2
  unfold pPart at h
  split at h
  · cases ho : fgo x n (sk x n a) (nI 0) (nI 999) with
    | false => rw [ho] at h; cases h
    | true =>
      rw [ho] at h
      cases h
      have := (of_decide_eq_true ho).1
      omega
  split at h
  · next _ hw => cases h; have := nxw_adv ha hw; exact ⟨Nat.lt_of_lt_of_le (Nat.lt_add_of_pos_right (by decide)) this.1, this.2⟩
  split at h
  · next _ hw => cases h; have := nxw_adv ha hw; exact ⟨Nat.lt_of_lt_of_le (Nat.lt_add_of_pos_right (by decide)) this.1, this.2⟩
  split at h
  · next _ hw => cases h; have := nxw_adv ha hw; exact ⟨Nat.lt_of_lt_of_le (Nat.lt_add_of_pos_right (by decide)) this.1, this.2⟩
  split at h
  · next _ hw => cases h; have := nxw_adv ha hw; exact ⟨Nat.lt_of_lt_of_le (Nat.lt_add_of_pos_right (by decide)) this.1, this.2⟩
  split at h
  · next _ hw => cases h; have := nxw_adv ha hw; exact ⟨Nat.lt_of_lt_of_le (Nat.lt_add_of_pos_right (by decide)) this.1, this.2⟩
  split at h
  · next _ hw => cases h; have := nxw_adv ha hw; exact ⟨Nat.lt_of_lt_of_le (Nat.lt_add_of_pos_right (by decide)) this.1, this.2⟩
  cases h
theorem loopT_adv {α : Type} {n : Nat} {item : Nat → Res α} {con : Nat → Bool} {cont stop : Nat → Nat} {op : α → α → α} (hi : Adv n item) (hc : ∀ a, a ≤ n → con a = true → a ≤ cont a ∧ cont a ≤ n) (hs : ∀ a, a ≤ n → a ≤ stop a ∧ stop a ≤ n) : ∀ f a acc a1 d, a ≤ n → loopT item con cont stop op f a acc = .inl (a1, d) → a ≤ a1 ∧ a1 ≤ n := by
  intro f
  induction f with
  | zero => intro a acc a1 d ha h; cases h
  | succ f ih =>
    intro a acc a1 d ha h
    rw [loopT] at h
    cases hb : con a with
    | false => rw [hb] at h; cases h; exact hs a ha
    | true =>
      rw [hb] at h
      dsimp only [cond_true] at h
      have h1 := hc a ha hb
      cases hp : item (cont a) with
      | inr q => rw [hp] at h; cases h
      | inl z =>
        obtain ⟨a2, e⟩ := z
        rw [hp] at h
        have h2 := hi _ _ _ h1.2 hp
        have h3 := ih _ _ _ _ h2.2 h
        omega
theorem loopP_adv {α : Type} {n : Nat} {item : Nat → Res α} {con : Nat → Bool} {cont stop : Nat → Nat} {op : α → α → α} {f : Nat} (hi : Adv n item) (hc : ∀ a, a ≤ n → con a = true → a ≤ cont a ∧ cont a ≤ n) (hs : ∀ a, a ≤ n → a ≤ stop a ∧ stop a ≤ n) : Adv n (loopP item con cont stop op f) := by
  intro a a1 d ha h
  unfold loopP at h
  cases hp : item a with
  | inr q => rw [hp] at h; cases h
  | inl z =>
    obtain ⟨a2, e⟩ := z
    rw [hp] at h
    have h2 := hi _ _ _ ha hp
    have h3 := loopT_adv hi hc hs _ _ _ _ _ h2.2 h
    omega
theorem pSum_adv {x : Nat → Int32} {n : Nat} : Adv n (pSum x n) :=
  loopP_adv pPart_adv (fun a _ h => ⟨Nat.le_succ_of_le sk_ge, nxs_adv h⟩) (fun a h => ⟨sk_ge, sk_le h⟩)
theorem pPlain_adv {x : Nat → Int32} {n : Nat} : Adv n (pPlain x n) := by
  intro a a1 d ha h
  unfold pPlain at h
  split at h
  · next hw => cases h; have := nxw_adv ha hw; exact ⟨Nat.lt_of_lt_of_le (Nat.lt_add_of_pos_right (by decide)) this.1, this.2⟩
  split at h
  · next _ hw => cases h; have := nxw_adv ha hw; exact ⟨Nat.lt_of_lt_of_le (Nat.lt_add_of_pos_right (by decide)) this.1, this.2⟩
  split at h
  · next _ hw => cases h; have := nxw_adv ha hw; exact ⟨Nat.lt_of_lt_of_le (Nat.lt_add_of_pos_right (by decide)) this.1, this.2⟩
  cases hp : pSum x n a with
  | inr q => rw [hp] at h; cases h
  | inl z =>
    obtain ⟨a2, u⟩ := z
    rw [hp] at h
    dsimp only at h
    have h1 := pSum_adv _ _ _ ha hp
    have h2 := sk_ge (x := x) (n := n) (a := a2)
    cases hl : nxs x n a2 (nI 60) with
    | true =>
      rw [hl] at h
      dsimp only [cond_true] at h
      cases hq : pSum x n (sk x n a2 + 1) with
      | inr q => rw [hq] at h; cases h
      | inl z =>
        rw [hq] at h
        cases h
        have h3 := pSum_adv _ _ _ (nxs_adv hl) hq
        omega
    | false =>
      rw [hl] at h
      dsimp only [cond_false] at h
      cases hg : nxs x n a2 (nI 62) with
      | true =>
        rw [hg] at h
        dsimp only [cond_true] at h
        cases hq : pSum x n (sk x n a2 + 1) with
        | inr q => rw [hq] at h; cases h
        | inl z =>
          rw [hq] at h
          cases h
          have h3 := pSum_adv _ _ _ (nxs_adv hg) hq
          omega
      | false => rw [hg] at h; cases h
theorem pAtomF_adv {x : Nat → Int32} {n : Nat} {sub : Option ((Nat → Res Bool) × (Nat → Res Bool))} (hs : ∀ s, sub = some s → Adv n s.1 ∧ Adv n s.2) : Adv n (pAtomF x n sub) := by
  intro a a1 d ha h
  unfold pAtomF at h
  cases hb : !nxw x n a w_not && !nxs x n a (nI 40) with
  | true => rw [hb] at h; exact pPlain_adv _ _ _ ha h
  | false =>
    rw [hb] at h
    dsimp only [cond_false] at h
    match sub, hs, h with
    | none, _, h => cases h
    | some s, hs, h =>
      obtain ⟨s1, s2⟩ := hs s rfl
      dsimp only at h
      cases hw : nxw x n a w_not with
      | true =>
        rw [hw] at h
        dsimp only [cond_true] at h
        have h1 := nxw_adv ha hw
        cases hp : s.1 (nxa x n a w_not) with
        | inr q => rw [hp] at h; cases h
        | inl z =>
          rw [hp] at h
          cases h
          have h2 := s1 _ _ _ h1.2 hp
          omega
      | false =>
        rw [hw] at h
        dsimp only [cond_false] at h
        rw [hw] at hb
        have hq : nxs x n a (nI 40) = true := by cases hq : nxs x n a (nI 40) with
          | true => rfl
          | false => rw [hq] at hb; cases hb
        have h0 := sk_ge (x := x) (n := n) (a := a)
        cases hp : s.2 (sk x n a + 1) with
        | inr q => rw [hp] at h; cases h
        | inl z =>
          obtain ⟨a2, e⟩ := z
          rw [hp] at h
          dsimp only at h
          have h2 := s2 _ _ _ (nxs_adv hq) hp
          have h3 := sk_ge (x := x) (n := n) (a := a2)
          cases hr : nxs x n a2 (nI 41) with
          | true => rw [hr] at h; cases h; have := nxs_adv hr; omega
          | false => rw [hr] at h; cases h
theorem pEveryF_adv {x : Nat → Int32} {n : Nat} {atom : Nat → Res Bool} (h : Adv n atom) : Adv n (pEveryF x n atom) :=
  loopP_adv h (fun a ha hc => ⟨Nat.le_trans (Nat.le_add_right _ _) (nxw_adv ha hc).1, (nxw_adv ha hc).2⟩) (fun a h => ⟨sk_ge, sk_le h⟩)
theorem pSomeF_adv {x : Nat → Int32} {n : Nat} {atom : Nat → Res Bool} (h : Adv n atom) : Adv n (pSomeF x n atom) :=
  loopP_adv (pEveryF_adv h) (fun a ha hc => ⟨Nat.le_trans (Nat.le_add_right _ _) (nxw_adv ha hc).1, (nxw_adv ha hc).2⟩) (fun a h => ⟨sk_ge, sk_le h⟩)
theorem pLev_adv {x : Nat → Int32} {n : Nat} : ∀ r, Adv n (pLev x n r).1 ∧ Adv n (pLev x n r).2 := by
  intro r
  induction r with
  | zero =>
    have : Adv n (pAtomF x n none) := pAtomF_adv (fun s h => by cases h)
    exact ⟨this, pSomeF_adv this⟩
  | succ r ih =>
    have : Adv n (pAtomF x n (some (pLev x n r))) := pAtomF_adv (fun s h => by cases h; exact ih)
    exact ⟨this, pSomeF_adv this⟩
