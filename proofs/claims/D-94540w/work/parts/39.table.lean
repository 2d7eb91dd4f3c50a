set_option maxRecDepth 100000
def hd_X0_town : AHd := fun pc E => bif Nat.ble 0 pc && Nat.blt pc 8 then (bif Nat.beq E 22 then some (some (12, 2)) else bif Nat.beq E 23 then some (some (15, 2)) else none) else some none
theorem hok_X0_town {γ : AG} (pc E : Nat) : HdOK γ m_X0_town hd_X0_town pc E := by
  cases hb : Nat.ble 0 pc && Nat.blt pc 8 with
  | false =>
    refine hd_out rfl (by unfold hd_X0_town; rw [hb]; rfl) ?_
    intro z hz h
    have : (Nat.ble 0 pc && Nat.blt pc 8) = true := by
      simp only [List.mem_cons, List.not_mem_nil, or_false] at hz
      rcases hz with rfl | rfl
      · rw [Bool.and_eq_true]; exact ⟨Nat.ble_eq.mpr h.1, Nat.blt_eq.mpr h.2⟩
      · rw [Bool.and_eq_true]; exact ⟨Nat.ble_eq.mpr h.1, Nat.blt_eq.mpr h.2⟩
    rw [this] at hb; cases hb
  | true =>
    obtain ⟨h1, h2⟩ := bsplit hb
    have hx := And.intro (Nat.le_of_ble_eq_true h1) (Nat.blt_eq.mp h2)
    cases e0 : Nat.beq E 22 with
    | true =>
      have := Nat.eq_of_beq_eq_true e0
      subst this
      exact hd_catch (hh := [(0, 8, 11, 13), (0, 8, 14, 15)]) (pre := []) (z := (0, 8, 11, 13)) (suf := [(0, 8, 14, 15)]) (name := "java/lang/IllegalArgumentException") rfl (by unfold hd_X0_town; rw [hb]; rfl) rfl (fun _ h => absurd h List.not_mem_nil) hx (by decide) q768 q953 (Or.inl ⟨2, rfl, dX0_town_11, rfl⟩) (by decide)
    | false =>
      cases e1 : Nat.beq E 23 with
      | true =>
        have := Nat.eq_of_beq_eq_true e1
        subst this
        exact hd_catch (hh := [(0, 8, 11, 13), (0, 8, 14, 15)]) (pre := [(0, 8, 11, 13)]) (z := (0, 8, 14, 15)) (suf := []) (name := "java/lang/UnsupportedOperationException") rfl (by unfold hd_X0_town; rw [hb]; rfl) rfl (List.forall_mem_cons.mpr ⟨⟨_, q768, by decide +kernel, by decide⟩, (fun _ h => absurd h List.not_mem_nil)⟩) hx (by decide) q769 q1331 (Or.inl ⟨2, rfl, dX0_town_14, rfl⟩) (by decide)
      | false =>
        exact hd_stuck (by unfold hd_X0_town; rw [hb]; simp only [cond_true, cond_false, e0, e1])
def hd_X0_temper : AHd := fun pc E => bif Nat.ble 0 pc && Nat.blt pc 8 then (bif Nat.beq E 22 then some (some (12, 2)) else bif Nat.beq E 23 then some (some (15, 2)) else none) else some none
theorem hok_X0_temper {γ : AG} (pc E : Nat) : HdOK γ m_X0_temper hd_X0_temper pc E := by
  cases hb : Nat.ble 0 pc && Nat.blt pc 8 with
  | false =>
    refine hd_out rfl (by unfold hd_X0_temper; rw [hb]; rfl) ?_
    intro z hz h
    have : (Nat.ble 0 pc && Nat.blt pc 8) = true := by
      simp only [List.mem_cons, List.not_mem_nil, or_false] at hz
      rcases hz with rfl | rfl
      · rw [Bool.and_eq_true]; exact ⟨Nat.ble_eq.mpr h.1, Nat.blt_eq.mpr h.2⟩
      · rw [Bool.and_eq_true]; exact ⟨Nat.ble_eq.mpr h.1, Nat.blt_eq.mpr h.2⟩
    rw [this] at hb; cases hb
  | true =>
    obtain ⟨h1, h2⟩ := bsplit hb
    have hx := And.intro (Nat.le_of_ble_eq_true h1) (Nat.blt_eq.mp h2)
    cases e0 : Nat.beq E 22 with
    | true =>
      have := Nat.eq_of_beq_eq_true e0
      subst this
      exact hd_catch (hh := [(0, 8, 11, 13), (0, 8, 14, 15)]) (pre := []) (z := (0, 8, 11, 13)) (suf := [(0, 8, 14, 15)]) (name := "java/lang/IllegalArgumentException") rfl (by unfold hd_X0_temper; rw [hb]; rfl) rfl (fun _ h => absurd h List.not_mem_nil) hx (by decide) q768 q953 (Or.inl ⟨2, rfl, dX0_temper_11, rfl⟩) (by decide)
    | false =>
      cases e1 : Nat.beq E 23 with
      | true =>
        have := Nat.eq_of_beq_eq_true e1
        subst this
        exact hd_catch (hh := [(0, 8, 11, 13), (0, 8, 14, 15)]) (pre := [(0, 8, 11, 13)]) (z := (0, 8, 14, 15)) (suf := []) (name := "java/lang/UnsupportedOperationException") rfl (by unfold hd_X0_temper; rw [hb]; rfl) rfl (List.forall_mem_cons.mpr ⟨⟨_, q768, by decide +kernel, by decide⟩, (fun _ h => absurd h List.not_mem_nil)⟩) hx (by decide) q769 q1331 (Or.inl ⟨2, rfl, dX0_temper_14, rfl⟩) (by decide)
      | false =>
        exact hd_stuck (by unfold hd_X0_temper; rw [hb]; simp only [cond_true, cond_false, e0, e1])
def hd_X0_has : AHd := fun pc E => bif Nat.ble 0 pc && Nat.blt pc 10 then (bif Nat.beq E 24 then some (some (15, 4)) else none) else some none
theorem hok_X0_has {γ : AG} (pc E : Nat) : HdOK γ m_X0_has hd_X0_has pc E := by
  cases hb : Nat.ble 0 pc && Nat.blt pc 10 with
  | false =>
    refine hd_out rfl (by unfold hd_X0_has; rw [hb]; rfl) ?_
    intro z hz h
    have : (Nat.ble 0 pc && Nat.blt pc 10) = true := by
      simp only [List.mem_cons, List.not_mem_nil, or_false] at hz
      rcases hz with rfl
      · rw [Bool.and_eq_true]; exact ⟨Nat.ble_eq.mpr h.1, Nat.blt_eq.mpr h.2⟩
    rw [this] at hb; cases hb
  | true =>
    obtain ⟨h1, h2⟩ := bsplit hb
    have hx := And.intro (Nat.le_of_ble_eq_true h1) (Nat.blt_eq.mp h2)
    cases e0 : Nat.beq E 24 with
    | true =>
      have := Nat.eq_of_beq_eq_true e0
      subst this
      exact hd_catch (hh := [(0, 10, 13, 24)]) (pre := []) (z := (0, 10, 13, 24)) (suf := []) (name := "java/lang/IndexOutOfBoundsException") rfl (by unfold hd_X0_has; rw [hb]; rfl) rfl (fun _ h => absurd h List.not_mem_nil) hx (by decide) q1524 q1557 (Or.inr ⟨dX0_has_13, rfl⟩) (by decide)
    | false =>
      exact hd_stuck (by unfold hd_X0_has; rw [hb]; simp only [cond_true, cond_false, e0])
def hd_X0_give : AHd := fun pc E => bif Nat.ble 0 pc && Nat.blt pc 16 then (bif Nat.beq E 24 then some (some (21, 7)) else bif Nat.beq E 22 then some (some (25, 7)) else none) else some none
theorem hok_X0_give {γ : AG} (pc E : Nat) : HdOK γ m_X0_give hd_X0_give pc E := by
  cases hb : Nat.ble 0 pc && Nat.blt pc 16 with
  | false =>
    refine hd_out rfl (by unfold hd_X0_give; rw [hb]; rfl) ?_
    intro z hz h
    have : (Nat.ble 0 pc && Nat.blt pc 16) = true := by
      simp only [List.mem_cons, List.not_mem_nil, or_false] at hz
      rcases hz with rfl | rfl
      · rw [Bool.and_eq_true]; exact ⟨Nat.ble_eq.mpr h.1, Nat.blt_eq.mpr h.2⟩
      · rw [Bool.and_eq_true]; exact ⟨Nat.ble_eq.mpr h.1, Nat.blt_eq.mpr h.2⟩
    rw [this] at hb; cases hb
  | true =>
    obtain ⟨h1, h2⟩ := bsplit hb
    have hx := And.intro (Nat.le_of_ble_eq_true h1) (Nat.blt_eq.mp h2)
    cases e0 : Nat.beq E 24 with
    | true =>
      have := Nat.eq_of_beq_eq_true e0
      subst this
      exact hd_catch (hh := [(0, 16, 19, 24), (0, 16, 23, 13)]) (pre := []) (z := (0, 16, 19, 24)) (suf := [(0, 16, 23, 13)]) (name := "java/lang/IndexOutOfBoundsException") rfl (by unfold hd_X0_give; rw [hb]; rfl) rfl (fun _ h => absurd h List.not_mem_nil) hx (by decide) q1524 q1557 (Or.inr ⟨dX0_give_19, rfl⟩) (by decide)
    | false =>
      cases e1 : Nat.beq E 22 with
      | true =>
        have := Nat.eq_of_beq_eq_true e1
        subst this
        exact hd_catch (hh := [(0, 16, 19, 24), (0, 16, 23, 13)]) (pre := [(0, 16, 19, 24)]) (z := (0, 16, 23, 13)) (suf := []) (name := "java/lang/IllegalArgumentException") rfl (by unfold hd_X0_give; rw [hb]; rfl) rfl (List.forall_mem_cons.mpr ⟨⟨_, q1524, by decide +kernel, by decide⟩, (fun _ h => absurd h List.not_mem_nil)⟩) hx (by decide) q768 q953 (Or.inr ⟨dX0_give_23, rfl⟩) (by decide)
      | false =>
        exact hd_stuck (by unfold hd_X0_give; rw [hb]; simp only [cond_true, cond_false, e0, e1])
def hd_X0_pass : AHd := fun pc E => bif Nat.ble 0 pc && Nat.blt pc 10 then (bif Nat.beq E 24 then some (some (15, 4)) else bif Nat.beq E 22 then some (some (19, 4)) else none) else some none
theorem hok_X0_pass {γ : AG} (pc E : Nat) : HdOK γ m_X0_pass hd_X0_pass pc E := by
  cases hb : Nat.ble 0 pc && Nat.blt pc 10 with
  | false =>
    refine hd_out rfl (by unfold hd_X0_pass; rw [hb]; rfl) ?_
    intro z hz h
    have : (Nat.ble 0 pc && Nat.blt pc 10) = true := by
      simp only [List.mem_cons, List.not_mem_nil, or_false] at hz
      rcases hz with rfl | rfl
      · rw [Bool.and_eq_true]; exact ⟨Nat.ble_eq.mpr h.1, Nat.blt_eq.mpr h.2⟩
      · rw [Bool.and_eq_true]; exact ⟨Nat.ble_eq.mpr h.1, Nat.blt_eq.mpr h.2⟩
    rw [this] at hb; cases hb
  | true =>
    obtain ⟨h1, h2⟩ := bsplit hb
    have hx := And.intro (Nat.le_of_ble_eq_true h1) (Nat.blt_eq.mp h2)
    cases e0 : Nat.beq E 24 with
    | true =>
      have := Nat.eq_of_beq_eq_true e0
      subst this
      exact hd_catch (hh := [(0, 10, 13, 24), (0, 10, 17, 13)]) (pre := []) (z := (0, 10, 13, 24)) (suf := [(0, 10, 17, 13)]) (name := "java/lang/IndexOutOfBoundsException") rfl (by unfold hd_X0_pass; rw [hb]; rfl) rfl (fun _ h => absurd h List.not_mem_nil) hx (by decide) q1524 q1557 (Or.inr ⟨dX0_pass_13, rfl⟩) (by decide)
    | false =>
      cases e1 : Nat.beq E 22 with
      | true =>
        have := Nat.eq_of_beq_eq_true e1
        subst this
        exact hd_catch (hh := [(0, 10, 13, 24), (0, 10, 17, 13)]) (pre := [(0, 10, 13, 24)]) (z := (0, 10, 17, 13)) (suf := []) (name := "java/lang/IllegalArgumentException") rfl (by unfold hd_X0_pass; rw [hb]; rfl) rfl (List.forall_mem_cons.mpr ⟨⟨_, q1524, by decide +kernel, by decide⟩, (fun _ h => absurd h List.not_mem_nil)⟩) hx (by decide) q768 q953 (Or.inr ⟨dX0_pass_17, rfl⟩) (by decide)
      | false =>
        exact hd_stuck (by unfold hd_X0_pass; rw [hb]; simp only [cond_true, cond_false, e0, e1])
def hd_X0_call : AHd := fun pc E => bif Nat.ble 0 pc && Nat.blt pc 9 then (bif Nat.beq E 24 then some (some (13, 3)) else none) else some none
theorem hok_X0_call {γ : AG} (pc E : Nat) : HdOK γ m_X0_call hd_X0_call pc E := by
  cases hb : Nat.ble 0 pc && Nat.blt pc 9 with
  | false =>
    refine hd_out rfl (by unfold hd_X0_call; rw [hb]; rfl) ?_
    intro z hz h
    have : (Nat.ble 0 pc && Nat.blt pc 9) = true := by
      simp only [List.mem_cons, List.not_mem_nil, or_false] at hz
      rcases hz with rfl
      · rw [Bool.and_eq_true]; exact ⟨Nat.ble_eq.mpr h.1, Nat.blt_eq.mpr h.2⟩
    rw [this] at hb; cases hb
  | true =>
    obtain ⟨h1, h2⟩ := bsplit hb
    have hx := And.intro (Nat.le_of_ble_eq_true h1) (Nat.blt_eq.mp h2)
    cases e0 : Nat.beq E 24 with
    | true =>
      have := Nat.eq_of_beq_eq_true e0
      subst this
      exact hd_catch (hh := [(0, 9, 12, 24)]) (pre := []) (z := (0, 9, 12, 24)) (suf := []) (name := "java/lang/IndexOutOfBoundsException") rfl (by unfold hd_X0_call; rw [hb]; rfl) rfl (fun _ h => absurd h List.not_mem_nil) hx (by decide) q1524 q1557 (Or.inl ⟨3, rfl, dX0_call_12, rfl⟩) (by decide)
    | false =>
      exact hd_stuck (by unfold hd_X0_call; rw [hb]; simp only [cond_true, cond_false, e0])
def hd_X0_days : AHd := fun pc E => bif Nat.ble 0 pc && Nat.blt pc 9 then (bif Nat.beq E 22 then some (some (13, 3)) else none) else some none
theorem hok_X0_days {γ : AG} (pc E : Nat) : HdOK γ m_X0_days hd_X0_days pc E := by
  cases hb : Nat.ble 0 pc && Nat.blt pc 9 with
  | false =>
    refine hd_out rfl (by unfold hd_X0_days; rw [hb]; rfl) ?_
    intro z hz h
    have : (Nat.ble 0 pc && Nat.blt pc 9) = true := by
      simp only [List.mem_cons, List.not_mem_nil, or_false] at hz
      rcases hz with rfl
      · rw [Bool.and_eq_true]; exact ⟨Nat.ble_eq.mpr h.1, Nat.blt_eq.mpr h.2⟩
    rw [this] at hb; cases hb
  | true =>
    obtain ⟨h1, h2⟩ := bsplit hb
    have hx := And.intro (Nat.le_of_ble_eq_true h1) (Nat.blt_eq.mp h2)
    cases e0 : Nat.beq E 22 with
    | true =>
      have := Nat.eq_of_beq_eq_true e0
      subst this
      exact hd_catch (hh := [(0, 9, 12, 13)]) (pre := []) (z := (0, 9, 12, 13)) (suf := []) (name := "java/lang/IllegalArgumentException") rfl (by unfold hd_X0_days; rw [hb]; rfl) rfl (fun _ h => absurd h List.not_mem_nil) hx (by decide) q768 q953 (Or.inl ⟨3, rfl, dX0_days_12, rfl⟩) (by decide)
    | false =>
      exact hd_stuck (by unfold hd_X0_days; rw [hb]; simp only [cond_true, cond_false, e0])
def hd_X0_look : AHd := fun pc E => bif Nat.ble 0 pc && Nat.blt pc 10 then (bif Nat.beq E 24 then some (some (15, 4)) else bif Nat.beq E 25 then some (some (19, 4)) else none) else some none
theorem hok_X0_look {γ : AG} (pc E : Nat) : HdOK γ m_X0_look hd_X0_look pc E := by
  cases hb : Nat.ble 0 pc && Nat.blt pc 10 with
  | false =>
    refine hd_out rfl (by unfold hd_X0_look; rw [hb]; rfl) ?_
    intro z hz h
    have : (Nat.ble 0 pc && Nat.blt pc 10) = true := by
      simp only [List.mem_cons, List.not_mem_nil, or_false] at hz
      rcases hz with rfl | rfl
      · rw [Bool.and_eq_true]; exact ⟨Nat.ble_eq.mpr h.1, Nat.blt_eq.mpr h.2⟩
      · rw [Bool.and_eq_true]; exact ⟨Nat.ble_eq.mpr h.1, Nat.blt_eq.mpr h.2⟩
    rw [this] at hb; cases hb
  | true =>
    obtain ⟨h1, h2⟩ := bsplit hb
    have hx := And.intro (Nat.le_of_ble_eq_true h1) (Nat.blt_eq.mp h2)
    cases e0 : Nat.beq E 24 with
    | true =>
      have := Nat.eq_of_beq_eq_true e0
      subst this
      exact hd_catch (hh := [(0, 10, 13, 24), (0, 10, 17, 43)]) (pre := []) (z := (0, 10, 13, 24)) (suf := [(0, 10, 17, 43)]) (name := "java/lang/IndexOutOfBoundsException") rfl (by unfold hd_X0_look; rw [hb]; rfl) rfl (fun _ h => absurd h List.not_mem_nil) hx (by decide) q1524 q1557 (Or.inr ⟨dX0_look_13, rfl⟩) (by decide)
    | false =>
      cases e1 : Nat.beq E 25 with
      | true =>
        have := Nat.eq_of_beq_eq_true e1
        subst this
        exact hd_catch (hh := [(0, 10, 13, 24), (0, 10, 17, 43)]) (pre := [(0, 10, 13, 24)]) (z := (0, 10, 17, 43)) (suf := []) (name := "java/util/NoSuchElementException") rfl (by unfold hd_X0_look; rw [hb]; rfl) rfl (List.forall_mem_cons.mpr ⟨⟨_, q1524, by decide +kernel, by decide⟩, (fun _ h => absurd h List.not_mem_nil)⟩) hx (by decide) q1613 q1623 (Or.inr ⟨dX0_look_17, rfl⟩) (by decide)
      | false =>
        exact hd_stuck (by unfold hd_X0_look; rw [hb]; simp only [cond_true, cond_false, e0, e1])
def hd_X0_hand : AHd := fun pc E => bif Nat.ble 0 pc && Nat.blt pc 10 then (bif Nat.beq E 24 then some (some (15, 4)) else none) else some none
theorem hok_X0_hand {γ : AG} (pc E : Nat) : HdOK γ m_X0_hand hd_X0_hand pc E := by
  cases hb : Nat.ble 0 pc && Nat.blt pc 10 with
  | false =>
    refine hd_out rfl (by unfold hd_X0_hand; rw [hb]; rfl) ?_
    intro z hz h
    have : (Nat.ble 0 pc && Nat.blt pc 10) = true := by
      simp only [List.mem_cons, List.not_mem_nil, or_false] at hz
      rcases hz with rfl
      · rw [Bool.and_eq_true]; exact ⟨Nat.ble_eq.mpr h.1, Nat.blt_eq.mpr h.2⟩
    rw [this] at hb; cases hb
  | true =>
    obtain ⟨h1, h2⟩ := bsplit hb
    have hx := And.intro (Nat.le_of_ble_eq_true h1) (Nat.blt_eq.mp h2)
    cases e0 : Nat.beq E 24 with
    | true =>
      have := Nat.eq_of_beq_eq_true e0
      subst this
      exact hd_catch (hh := [(0, 10, 13, 24)]) (pre := []) (z := (0, 10, 13, 24)) (suf := []) (name := "java/lang/IndexOutOfBoundsException") rfl (by unfold hd_X0_hand; rw [hb]; rfl) rfl (fun _ h => absurd h List.not_mem_nil) hx (by decide) q1524 q1557 (Or.inr ⟨dX0_hand_13, rfl⟩) (by decide)
    | false =>
      exact hd_stuck (by unfold hd_X0_hand; rw [hb]; simp only [cond_true, cond_false, e0])
def hd_X0_takes : AHd := fun pc E => bif Nat.ble 0 pc && Nat.blt pc 17 then (bif Nat.beq E 24 then some (some (22, 4)) else none) else some none
theorem hok_X0_takes {γ : AG} (pc E : Nat) : HdOK γ m_X0_takes hd_X0_takes pc E := by
  cases hb : Nat.ble 0 pc && Nat.blt pc 17 with
  | false =>
    refine hd_out rfl (by unfold hd_X0_takes; rw [hb]; rfl) ?_
    intro z hz h
    have : (Nat.ble 0 pc && Nat.blt pc 17) = true := by
      simp only [List.mem_cons, List.not_mem_nil, or_false] at hz
      rcases hz with rfl
      · rw [Bool.and_eq_true]; exact ⟨Nat.ble_eq.mpr h.1, Nat.blt_eq.mpr h.2⟩
    rw [this] at hb; cases hb
  | true =>
    obtain ⟨h1, h2⟩ := bsplit hb
    have hx := And.intro (Nat.le_of_ble_eq_true h1) (Nat.blt_eq.mp h2)
    cases e0 : Nat.beq E 24 with
    | true =>
      have := Nat.eq_of_beq_eq_true e0
      subst this
      exact hd_catch (hh := [(0, 17, 20, 24)]) (pre := []) (z := (0, 17, 20, 24)) (suf := []) (name := "java/lang/IndexOutOfBoundsException") rfl (by unfold hd_X0_takes; rw [hb]; rfl) rfl (fun _ h => absurd h List.not_mem_nil) hx (by decide) q1524 q1557 (Or.inr ⟨dX0_takes_20, rfl⟩) (by decide)
    | false =>
      exact hd_stuck (by unfold hd_X0_takes; rw [hb]; simp only [cond_true, cond_false, e0])
def hd_X0_rich : AHd := fun pc E => bif Nat.ble 0 pc && Nat.blt pc 9 then (bif Nat.beq E 24 then some (some (13, 3)) else none) else some none
theorem hok_X0_rich {γ : AG} (pc E : Nat) : HdOK γ m_X0_rich hd_X0_rich pc E := by
  cases hb : Nat.ble 0 pc && Nat.blt pc 9 with
  | false =>
    refine hd_out rfl (by unfold hd_X0_rich; rw [hb]; rfl) ?_
    intro z hz h
    have : (Nat.ble 0 pc && Nat.blt pc 9) = true := by
      simp only [List.mem_cons, List.not_mem_nil, or_false] at hz
      rcases hz with rfl
      · rw [Bool.and_eq_true]; exact ⟨Nat.ble_eq.mpr h.1, Nat.blt_eq.mpr h.2⟩
    rw [this] at hb; cases hb
  | true =>
    obtain ⟨h1, h2⟩ := bsplit hb
    have hx := And.intro (Nat.le_of_ble_eq_true h1) (Nat.blt_eq.mp h2)
    cases e0 : Nat.beq E 24 with
    | true =>
      have := Nat.eq_of_beq_eq_true e0
      subst this
      exact hd_catch (hh := [(0, 9, 12, 24)]) (pre := []) (z := (0, 9, 12, 24)) (suf := []) (name := "java/lang/IndexOutOfBoundsException") rfl (by unfold hd_X0_rich; rw [hb]; rfl) rfl (fun _ h => absurd h List.not_mem_nil) hx (by decide) q1524 q1557 (Or.inl ⟨3, rfl, dX0_rich_12, rfl⟩) (by decide)
    | false =>
      exact hd_stuck (by unfold hd_X0_rich; rw [hb]; simp only [cond_true, cond_false, e0])
def hd_X0_debt : AHd := fun pc E => bif Nat.ble 0 pc && Nat.blt pc 9 then (bif Nat.beq E 24 then some (some (13, 3)) else none) else some none
theorem hok_X0_debt {γ : AG} (pc E : Nat) : HdOK γ m_X0_debt hd_X0_debt pc E := by
  cases hb : Nat.ble 0 pc && Nat.blt pc 9 with
  | false =>
    refine hd_out rfl (by unfold hd_X0_debt; rw [hb]; rfl) ?_
    intro z hz h
    have : (Nat.ble 0 pc && Nat.blt pc 9) = true := by
      simp only [List.mem_cons, List.not_mem_nil, or_false] at hz
      rcases hz with rfl
      · rw [Bool.and_eq_true]; exact ⟨Nat.ble_eq.mpr h.1, Nat.blt_eq.mpr h.2⟩
    rw [this] at hb; cases hb
  | true =>
    obtain ⟨h1, h2⟩ := bsplit hb
    have hx := And.intro (Nat.le_of_ble_eq_true h1) (Nat.blt_eq.mp h2)
    cases e0 : Nat.beq E 24 with
    | true =>
      have := Nat.eq_of_beq_eq_true e0
      subst this
      exact hd_catch (hh := [(0, 9, 12, 24)]) (pre := []) (z := (0, 9, 12, 24)) (suf := []) (name := "java/lang/IndexOutOfBoundsException") rfl (by unfold hd_X0_debt; rw [hb]; rfl) rfl (fun _ h => absurd h List.not_mem_nil) hx (by decide) q1524 q1557 (Or.inl ⟨3, rfl, dX0_debt_12, rfl⟩) (by decide)
    | false =>
      exact hd_stuck (by unfold hd_X0_debt; rw [hb]; simp only [cond_true, cond_false, e0])
def hd_X0_owes : AHd := fun pc E => bif Nat.ble 0 pc && Nat.blt pc 10 then (bif Nat.beq E 24 then some (some (15, 4)) else none) else some none
theorem hok_X0_owes {γ : AG} (pc E : Nat) : HdOK γ m_X0_owes hd_X0_owes pc E := by
  cases hb : Nat.ble 0 pc && Nat.blt pc 10 with
  | false =>
    refine hd_out rfl (by unfold hd_X0_owes; rw [hb]; rfl) ?_
    intro z hz h
    have : (Nat.ble 0 pc && Nat.blt pc 10) = true := by
      simp only [List.mem_cons, List.not_mem_nil, or_false] at hz
      rcases hz with rfl
      · rw [Bool.and_eq_true]; exact ⟨Nat.ble_eq.mpr h.1, Nat.blt_eq.mpr h.2⟩
    rw [this] at hb; cases hb
  | true =>
    obtain ⟨h1, h2⟩ := bsplit hb
    have hx := And.intro (Nat.le_of_ble_eq_true h1) (Nat.blt_eq.mp h2)
    cases e0 : Nat.beq E 24 with
    | true =>
      have := Nat.eq_of_beq_eq_true e0
      subst this
      exact hd_catch (hh := [(0, 10, 13, 24)]) (pre := []) (z := (0, 10, 13, 24)) (suf := []) (name := "java/lang/IndexOutOfBoundsException") rfl (by unfold hd_X0_owes; rw [hb]; rfl) rfl (fun _ h => absurd h List.not_mem_nil) hx (by decide) q1524 q1557 (Or.inr ⟨dX0_owes_13, rfl⟩) (by decide)
    | false =>
      exact hd_stuck (by unfold hd_X0_owes; rw [hb]; simp only [cond_true, cond_false, e0])
def hd_X0_pays : AHd := fun pc E => bif Nat.ble 0 pc && Nat.blt pc 12 then (bif Nat.beq E 24 then some (some (17, 5)) else bif Nat.beq E 22 then some (some (21, 5)) else none) else some none
theorem hok_X0_pays {γ : AG} (pc E : Nat) : HdOK γ m_X0_pays hd_X0_pays pc E := by
  cases hb : Nat.ble 0 pc && Nat.blt pc 12 with
  | false =>
    refine hd_out rfl (by unfold hd_X0_pays; rw [hb]; rfl) ?_
    intro z hz h
    have : (Nat.ble 0 pc && Nat.blt pc 12) = true := by
      simp only [List.mem_cons, List.not_mem_nil, or_false] at hz
      rcases hz with rfl | rfl
      · rw [Bool.and_eq_true]; exact ⟨Nat.ble_eq.mpr h.1, Nat.blt_eq.mpr h.2⟩
      · rw [Bool.and_eq_true]; exact ⟨Nat.ble_eq.mpr h.1, Nat.blt_eq.mpr h.2⟩
    rw [this] at hb; cases hb
  | true =>
    obtain ⟨h1, h2⟩ := bsplit hb
    have hx := And.intro (Nat.le_of_ble_eq_true h1) (Nat.blt_eq.mp h2)
    cases e0 : Nat.beq E 24 with
    | true =>
      have := Nat.eq_of_beq_eq_true e0
      subst this
      exact hd_catch (hh := [(0, 12, 15, 24), (0, 12, 19, 13)]) (pre := []) (z := (0, 12, 15, 24)) (suf := [(0, 12, 19, 13)]) (name := "java/lang/IndexOutOfBoundsException") rfl (by unfold hd_X0_pays; rw [hb]; rfl) rfl (fun _ h => absurd h List.not_mem_nil) hx (by decide) q1524 q1557 (Or.inr ⟨dX0_pays_15, rfl⟩) (by decide)
    | false =>
      cases e1 : Nat.beq E 22 with
      | true =>
        have := Nat.eq_of_beq_eq_true e1
        subst this
        exact hd_catch (hh := [(0, 12, 15, 24), (0, 12, 19, 13)]) (pre := [(0, 12, 15, 24)]) (z := (0, 12, 19, 13)) (suf := []) (name := "java/lang/IllegalArgumentException") rfl (by unfold hd_X0_pays; rw [hb]; rfl) rfl (List.forall_mem_cons.mpr ⟨⟨_, q1524, by decide +kernel, by decide⟩, (fun _ h => absurd h List.not_mem_nil)⟩) hx (by decide) q768 q953 (Or.inr ⟨dX0_pays_19, rfl⟩) (by decide)
      | false =>
        exact hd_stuck (by unfold hd_X0_pays; rw [hb]; simp only [cond_true, cond_false, e0, e1])
def hd_X0_can : AHd := fun pc E => bif Nat.ble 0 pc && Nat.blt pc 16 then (bif Nat.beq E 24 then some (some (20, 3)) else none) else some none
theorem hok_X0_can {γ : AG} (pc E : Nat) : HdOK γ m_X0_can hd_X0_can pc E := by
  cases hb : Nat.ble 0 pc && Nat.blt pc 16 with
  | false =>
    refine hd_out rfl (by unfold hd_X0_can; rw [hb]; rfl) ?_
    intro z hz h
    have : (Nat.ble 0 pc && Nat.blt pc 16) = true := by
      simp only [List.mem_cons, List.not_mem_nil, or_false] at hz
      rcases hz with rfl
      · rw [Bool.and_eq_true]; exact ⟨Nat.ble_eq.mpr h.1, Nat.blt_eq.mpr h.2⟩
    rw [this] at hb; cases hb
  | true =>
    obtain ⟨h1, h2⟩ := bsplit hb
    have hx := And.intro (Nat.le_of_ble_eq_true h1) (Nat.blt_eq.mp h2)
    cases e0 : Nat.beq E 24 with
    | true =>
      have := Nat.eq_of_beq_eq_true e0
      subst this
      exact hd_catch (hh := [(0, 16, 19, 24)]) (pre := []) (z := (0, 16, 19, 24)) (suf := []) (name := "java/lang/IndexOutOfBoundsException") rfl (by unfold hd_X0_can; rw [hb]; rfl) rfl (fun _ h => absurd h List.not_mem_nil) hx (by decide) q1524 q1557 (Or.inl ⟨3, rfl, dX0_can_19, rfl⟩) (by decide)
    | false =>
      exact hd_stuck (by unfold hd_X0_can; rw [hb]; simp only [cond_true, cond_false, e0])
def hd_X0_meet : AHd := fun pc E => bif Nat.ble 0 pc && Nat.blt pc 9 then (bif Nat.beq E 24 then some (some (13, 3)) else none) else some none
theorem hok_X0_meet {γ : AG} (pc E : Nat) : HdOK γ m_X0_meet hd_X0_meet pc E := by
  cases hb : Nat.ble 0 pc && Nat.blt pc 9 with
  | false =>
    refine hd_out rfl (by unfold hd_X0_meet; rw [hb]; rfl) ?_
    intro z hz h
    have : (Nat.ble 0 pc && Nat.blt pc 9) = true := by
      simp only [List.mem_cons, List.not_mem_nil, or_false] at hz
      rcases hz with rfl
      · rw [Bool.and_eq_true]; exact ⟨Nat.ble_eq.mpr h.1, Nat.blt_eq.mpr h.2⟩
    rw [this] at hb; cases hb
  | true =>
    obtain ⟨h1, h2⟩ := bsplit hb
    have hx := And.intro (Nat.le_of_ble_eq_true h1) (Nat.blt_eq.mp h2)
    cases e0 : Nat.beq E 24 with
    | true =>
      have := Nat.eq_of_beq_eq_true e0
      subst this
      exact hd_catch (hh := [(0, 9, 12, 24)]) (pre := []) (z := (0, 9, 12, 24)) (suf := []) (name := "java/lang/IndexOutOfBoundsException") rfl (by unfold hd_X0_meet; rw [hb]; rfl) rfl (fun _ h => absurd h List.not_mem_nil) hx (by decide) q1524 q1557 (Or.inl ⟨3, rfl, dX0_meet_12, rfl⟩) (by decide)
    | false =>
      exact hd_stuck (by unfold hd_X0_meet; rw [hb]; simp only [cond_true, cond_false, e0])
def hd_X0_port : AHd := fun pc E => bif Nat.ble 0 pc && Nat.blt pc 10 then (bif Nat.beq E 24 then some (some (15, 4)) else bif Nat.beq E 22 then some (some (19, 4)) else none) else some none
theorem hok_X0_port {γ : AG} (pc E : Nat) : HdOK γ m_X0_port hd_X0_port pc E := by
  cases hb : Nat.ble 0 pc && Nat.blt pc 10 with
  | false =>
    refine hd_out rfl (by unfold hd_X0_port; rw [hb]; rfl) ?_
    intro z hz h
    have : (Nat.ble 0 pc && Nat.blt pc 10) = true := by
      simp only [List.mem_cons, List.not_mem_nil, or_false] at hz
      rcases hz with rfl | rfl
      · rw [Bool.and_eq_true]; exact ⟨Nat.ble_eq.mpr h.1, Nat.blt_eq.mpr h.2⟩
      · rw [Bool.and_eq_true]; exact ⟨Nat.ble_eq.mpr h.1, Nat.blt_eq.mpr h.2⟩
    rw [this] at hb; cases hb
  | true =>
    obtain ⟨h1, h2⟩ := bsplit hb
    have hx := And.intro (Nat.le_of_ble_eq_true h1) (Nat.blt_eq.mp h2)
    cases e0 : Nat.beq E 24 with
    | true =>
      have := Nat.eq_of_beq_eq_true e0
      subst this
      exact hd_catch (hh := [(0, 10, 13, 24), (0, 10, 17, 13)]) (pre := []) (z := (0, 10, 13, 24)) (suf := [(0, 10, 17, 13)]) (name := "java/lang/IndexOutOfBoundsException") rfl (by unfold hd_X0_port; rw [hb]; rfl) rfl (fun _ h => absurd h List.not_mem_nil) hx (by decide) q1524 q1557 (Or.inr ⟨dX0_port_13, rfl⟩) (by decide)
    | false =>
      cases e1 : Nat.beq E 22 with
      | true =>
        have := Nat.eq_of_beq_eq_true e1
        subst this
        exact hd_catch (hh := [(0, 10, 13, 24), (0, 10, 17, 13)]) (pre := [(0, 10, 13, 24)]) (z := (0, 10, 17, 13)) (suf := []) (name := "java/lang/IllegalArgumentException") rfl (by unfold hd_X0_port; rw [hb]; rfl) rfl (List.forall_mem_cons.mpr ⟨⟨_, q1524, by decide +kernel, by decide⟩, (fun _ h => absurd h List.not_mem_nil)⟩) hx (by decide) q768 q953 (Or.inr ⟨dX0_port_17, rfl⟩) (by decide)
      | false =>
        exact hd_stuck (by unfold hd_X0_port; rw [hb]; simp only [cond_true, cond_false, e0, e1])
def hd_X0_most : AHd := fun pc E => bif Nat.ble 0 pc && Nat.blt pc 10 then (bif Nat.beq E 24 then some (some (15, 4)) else bif Nat.beq E 22 then some (some (19, 4)) else none) else some none
theorem hok_X0_most {γ : AG} (pc E : Nat) : HdOK γ m_X0_most hd_X0_most pc E := by
  cases hb : Nat.ble 0 pc && Nat.blt pc 10 with
  | false =>
    refine hd_out rfl (by unfold hd_X0_most; rw [hb]; rfl) ?_
    intro z hz h
    have : (Nat.ble 0 pc && Nat.blt pc 10) = true := by
      simp only [List.mem_cons, List.not_mem_nil, or_false] at hz
      rcases hz with rfl | rfl
      · rw [Bool.and_eq_true]; exact ⟨Nat.ble_eq.mpr h.1, Nat.blt_eq.mpr h.2⟩
      · rw [Bool.and_eq_true]; exact ⟨Nat.ble_eq.mpr h.1, Nat.blt_eq.mpr h.2⟩
    rw [this] at hb; cases hb
  | true =>
    obtain ⟨h1, h2⟩ := bsplit hb
    have hx := And.intro (Nat.le_of_ble_eq_true h1) (Nat.blt_eq.mp h2)
    cases e0 : Nat.beq E 24 with
    | true =>
      have := Nat.eq_of_beq_eq_true e0
      subst this
      exact hd_catch (hh := [(0, 10, 13, 24), (0, 10, 17, 13)]) (pre := []) (z := (0, 10, 13, 24)) (suf := [(0, 10, 17, 13)]) (name := "java/lang/IndexOutOfBoundsException") rfl (by unfold hd_X0_most; rw [hb]; rfl) rfl (fun _ h => absurd h List.not_mem_nil) hx (by decide) q1524 q1557 (Or.inr ⟨dX0_most_13, rfl⟩) (by decide)
    | false =>
      cases e1 : Nat.beq E 22 with
      | true =>
        have := Nat.eq_of_beq_eq_true e1
        subst this
        exact hd_catch (hh := [(0, 10, 13, 24), (0, 10, 17, 13)]) (pre := [(0, 10, 13, 24)]) (z := (0, 10, 17, 13)) (suf := []) (name := "java/lang/IllegalArgumentException") rfl (by unfold hd_X0_most; rw [hb]; rfl) rfl (List.forall_mem_cons.mpr ⟨⟨_, q1524, by decide +kernel, by decide⟩, (fun _ h => absurd h List.not_mem_nil)⟩) hx (by decide) q768 q953 (Or.inr ⟨dX0_most_17, rfl⟩) (by decide)
      | false =>
        exact hd_stuck (by unfold hd_X0_most; rw [hb]; simp only [cond_true, cond_false, e0, e1])
def hd_X0_cut : AHd := fun pc E => bif Nat.ble 0 pc && Nat.blt pc 10 then (bif Nat.beq E 24 then some (some (15, 4)) else bif Nat.beq E 22 then some (some (19, 4)) else none) else some none
theorem hok_X0_cut {γ : AG} (pc E : Nat) : HdOK γ m_X0_cut hd_X0_cut pc E := by
  cases hb : Nat.ble 0 pc && Nat.blt pc 10 with
  | false =>
    refine hd_out rfl (by unfold hd_X0_cut; rw [hb]; rfl) ?_
    intro z hz h
    have : (Nat.ble 0 pc && Nat.blt pc 10) = true := by
      simp only [List.mem_cons, List.not_mem_nil, or_false] at hz
      rcases hz with rfl | rfl
      · rw [Bool.and_eq_true]; exact ⟨Nat.ble_eq.mpr h.1, Nat.blt_eq.mpr h.2⟩
      · rw [Bool.and_eq_true]; exact ⟨Nat.ble_eq.mpr h.1, Nat.blt_eq.mpr h.2⟩
    rw [this] at hb; cases hb
  | true =>
    obtain ⟨h1, h2⟩ := bsplit hb
    have hx := And.intro (Nat.le_of_ble_eq_true h1) (Nat.blt_eq.mp h2)
    cases e0 : Nat.beq E 24 with
    | true =>
      have := Nat.eq_of_beq_eq_true e0
      subst this
      exact hd_catch (hh := [(0, 10, 13, 24), (0, 10, 17, 13)]) (pre := []) (z := (0, 10, 13, 24)) (suf := [(0, 10, 17, 13)]) (name := "java/lang/IndexOutOfBoundsException") rfl (by unfold hd_X0_cut; rw [hb]; rfl) rfl (fun _ h => absurd h List.not_mem_nil) hx (by decide) q1524 q1557 (Or.inr ⟨dX0_cut_13, rfl⟩) (by decide)
    | false =>
      cases e1 : Nat.beq E 22 with
      | true =>
        have := Nat.eq_of_beq_eq_true e1
        subst this
        exact hd_catch (hh := [(0, 10, 13, 24), (0, 10, 17, 13)]) (pre := [(0, 10, 13, 24)]) (z := (0, 10, 17, 13)) (suf := []) (name := "java/lang/IllegalArgumentException") rfl (by unfold hd_X0_cut; rw [hb]; rfl) rfl (List.forall_mem_cons.mpr ⟨⟨_, q1524, by decide +kernel, by decide⟩, (fun _ h => absurd h List.not_mem_nil)⟩) hx (by decide) q768 q953 (Or.inr ⟨dX0_cut_17, rfl⟩) (by decide)
      | false =>
        exact hd_stuck (by unfold hd_X0_cut; rw [hb]; simp only [cond_true, cond_false, e0, e1])
def hd_X0_chain : AHd := fun pc E => bif Nat.ble 0 pc && Nat.blt pc 14 then (bif Nat.beq E 24 then some (some (19, 6)) else bif Nat.beq E 22 then some (some (23, 6)) else none) else some none
theorem hok_X0_chain {γ : AG} (pc E : Nat) : HdOK γ m_X0_chain hd_X0_chain pc E := by
  cases hb : Nat.ble 0 pc && Nat.blt pc 14 with
  | false =>
    refine hd_out rfl (by unfold hd_X0_chain; rw [hb]; rfl) ?_
    intro z hz h
    have : (Nat.ble 0 pc && Nat.blt pc 14) = true := by
      simp only [List.mem_cons, List.not_mem_nil, or_false] at hz
      rcases hz with rfl | rfl
      · rw [Bool.and_eq_true]; exact ⟨Nat.ble_eq.mpr h.1, Nat.blt_eq.mpr h.2⟩
      · rw [Bool.and_eq_true]; exact ⟨Nat.ble_eq.mpr h.1, Nat.blt_eq.mpr h.2⟩
    rw [this] at hb; cases hb
  | true =>
    obtain ⟨h1, h2⟩ := bsplit hb
    have hx := And.intro (Nat.le_of_ble_eq_true h1) (Nat.blt_eq.mp h2)
    cases e0 : Nat.beq E 24 with
    | true =>
      have := Nat.eq_of_beq_eq_true e0
      subst this
      exact hd_catch (hh := [(0, 14, 17, 24), (0, 14, 21, 13)]) (pre := []) (z := (0, 14, 17, 24)) (suf := [(0, 14, 21, 13)]) (name := "java/lang/IndexOutOfBoundsException") rfl (by unfold hd_X0_chain; rw [hb]; rfl) rfl (fun _ h => absurd h List.not_mem_nil) hx (by decide) q1524 q1557 (Or.inr ⟨dX0_chain_17, rfl⟩) (by decide)
    | false =>
      cases e1 : Nat.beq E 22 with
      | true =>
        have := Nat.eq_of_beq_eq_true e1
        subst this
        exact hd_catch (hh := [(0, 14, 17, 24), (0, 14, 21, 13)]) (pre := [(0, 14, 17, 24)]) (z := (0, 14, 21, 13)) (suf := []) (name := "java/lang/IllegalArgumentException") rfl (by unfold hd_X0_chain; rw [hb]; rfl) rfl (List.forall_mem_cons.mpr ⟨⟨_, q1524, by decide +kernel, by decide⟩, (fun _ h => absurd h List.not_mem_nil)⟩) hx (by decide) q768 q953 (Or.inr ⟨dX0_chain_21, rfl⟩) (by decide)
      | false =>
        exact hd_stuck (by unfold hd_X0_chain; rw [hb]; simp only [cond_true, cond_false, e0, e1])
def hd_X0_ring : AHd := fun pc E => bif Nat.ble 0 pc && Nat.blt pc 8 then (bif Nat.beq E 22 then some (some (12, 2)) else bif Nat.beq E 23 then some (some (15, 2)) else none) else some none
theorem hok_X0_ring {γ : AG} (pc E : Nat) : HdOK γ m_X0_ring hd_X0_ring pc E := by
  cases hb : Nat.ble 0 pc && Nat.blt pc 8 with
  | false =>
    refine hd_out rfl (by unfold hd_X0_ring; rw [hb]; rfl) ?_
    intro z hz h
    have : (Nat.ble 0 pc && Nat.blt pc 8) = true := by
      simp only [List.mem_cons, List.not_mem_nil, or_false] at hz
      rcases hz with rfl | rfl
      · rw [Bool.and_eq_true]; exact ⟨Nat.ble_eq.mpr h.1, Nat.blt_eq.mpr h.2⟩
      · rw [Bool.and_eq_true]; exact ⟨Nat.ble_eq.mpr h.1, Nat.blt_eq.mpr h.2⟩
    rw [this] at hb; cases hb
  | true =>
    obtain ⟨h1, h2⟩ := bsplit hb
    have hx := And.intro (Nat.le_of_ble_eq_true h1) (Nat.blt_eq.mp h2)
    cases e0 : Nat.beq E 22 with
    | true =>
      have := Nat.eq_of_beq_eq_true e0
      subst this
      exact hd_catch (hh := [(0, 8, 11, 13), (0, 8, 14, 15)]) (pre := []) (z := (0, 8, 11, 13)) (suf := [(0, 8, 14, 15)]) (name := "java/lang/IllegalArgumentException") rfl (by unfold hd_X0_ring; rw [hb]; rfl) rfl (fun _ h => absurd h List.not_mem_nil) hx (by decide) q768 q953 (Or.inl ⟨2, rfl, dX0_ring_11, rfl⟩) (by decide)
    | false =>
      cases e1 : Nat.beq E 23 with
      | true =>
        have := Nat.eq_of_beq_eq_true e1
        subst this
        exact hd_catch (hh := [(0, 8, 11, 13), (0, 8, 14, 15)]) (pre := [(0, 8, 11, 13)]) (z := (0, 8, 14, 15)) (suf := []) (name := "java/lang/UnsupportedOperationException") rfl (by unfold hd_X0_ring; rw [hb]; rfl) rfl (List.forall_mem_cons.mpr ⟨⟨_, q768, by decide +kernel, by decide⟩, (fun _ h => absurd h List.not_mem_nil)⟩) hx (by decide) q769 q1331 (Or.inl ⟨2, rfl, dX0_ring_14, rfl⟩) (by decide)
      | false =>
        exact hd_stuck (by unfold hd_X0_ring; rw [hb]; simp only [cond_true, cond_false, e0, e1])
def hd_X0_clear : AHd := fun pc E => bif Nat.ble 0 pc && Nat.blt pc 9 then (bif Nat.beq E 22 then some (some (13, 3)) else none) else some none
theorem hok_X0_clear {γ : AG} (pc E : Nat) : HdOK γ m_X0_clear hd_X0_clear pc E := by
  cases hb : Nat.ble 0 pc && Nat.blt pc 9 with
  | false =>
    refine hd_out rfl (by unfold hd_X0_clear; rw [hb]; rfl) ?_
    intro z hz h
    have : (Nat.ble 0 pc && Nat.blt pc 9) = true := by
      simp only [List.mem_cons, List.not_mem_nil, or_false] at hz
      rcases hz with rfl
      · rw [Bool.and_eq_true]; exact ⟨Nat.ble_eq.mpr h.1, Nat.blt_eq.mpr h.2⟩
    rw [this] at hb; cases hb
  | true =>
    obtain ⟨h1, h2⟩ := bsplit hb
    have hx := And.intro (Nat.le_of_ble_eq_true h1) (Nat.blt_eq.mp h2)
    cases e0 : Nat.beq E 22 with
    | true =>
      have := Nat.eq_of_beq_eq_true e0
      subst this
      exact hd_catch (hh := [(0, 9, 12, 13)]) (pre := []) (z := (0, 9, 12, 13)) (suf := []) (name := "java/lang/IllegalArgumentException") rfl (by unfold hd_X0_clear; rw [hb]; rfl) rfl (fun _ h => absurd h List.not_mem_nil) hx (by decide) q768 q953 (Or.inl ⟨3, rfl, dX0_clear_12, rfl⟩) (by decide)
    | false =>
      exact hd_stuck (by unfold hd_X0_clear; rw [hb]; simp only [cond_true, cond_false, e0])
def hd_X0_loss : AHd := fun pc E => bif Nat.ble 0 pc && Nat.blt pc 10 then (bif Nat.beq E 24 then some (some (15, 4)) else none) else some none
theorem hok_X0_loss {γ : AG} (pc E : Nat) : HdOK γ m_X0_loss hd_X0_loss pc E := by
  cases hb : Nat.ble 0 pc && Nat.blt pc 10 with
  | false =>
    refine hd_out rfl (by unfold hd_X0_loss; rw [hb]; rfl) ?_
    intro z hz h
    have : (Nat.ble 0 pc && Nat.blt pc 10) = true := by
      simp only [List.mem_cons, List.not_mem_nil, or_false] at hz
      rcases hz with rfl
      · rw [Bool.and_eq_true]; exact ⟨Nat.ble_eq.mpr h.1, Nat.blt_eq.mpr h.2⟩
    rw [this] at hb; cases hb
  | true =>
    obtain ⟨h1, h2⟩ := bsplit hb
    have hx := And.intro (Nat.le_of_ble_eq_true h1) (Nat.blt_eq.mp h2)
    cases e0 : Nat.beq E 24 with
    | true =>
      have := Nat.eq_of_beq_eq_true e0
      subst this
      exact hd_catch (hh := [(0, 10, 13, 24)]) (pre := []) (z := (0, 10, 13, 24)) (suf := []) (name := "java/lang/IndexOutOfBoundsException") rfl (by unfold hd_X0_loss; rw [hb]; rfl) rfl (fun _ h => absurd h List.not_mem_nil) hx (by decide) q1524 q1557 (Or.inr ⟨dX0_loss_13, rfl⟩) (by decide)
    | false =>
      exact hd_stuck (by unfold hd_X0_loss; rw [hb]; simp only [cond_true, cond_false, e0])
def hd_X0_ruined : AHd := fun pc E => bif Nat.ble 0 pc && Nat.blt pc 9 then (bif Nat.beq E 24 then some (some (13, 3)) else none) else some none
theorem hok_X0_ruined {γ : AG} (pc E : Nat) : HdOK γ m_X0_ruined hd_X0_ruined pc E := by
  cases hb : Nat.ble 0 pc && Nat.blt pc 9 with
  | false =>
    refine hd_out rfl (by unfold hd_X0_ruined; rw [hb]; rfl) ?_
    intro z hz h
    have : (Nat.ble 0 pc && Nat.blt pc 9) = true := by
      simp only [List.mem_cons, List.not_mem_nil, or_false] at hz
      rcases hz with rfl
      · rw [Bool.and_eq_true]; exact ⟨Nat.ble_eq.mpr h.1, Nat.blt_eq.mpr h.2⟩
    rw [this] at hb; cases hb
  | true =>
    obtain ⟨h1, h2⟩ := bsplit hb
    have hx := And.intro (Nat.le_of_ble_eq_true h1) (Nat.blt_eq.mp h2)
    cases e0 : Nat.beq E 24 with
    | true =>
      have := Nat.eq_of_beq_eq_true e0
      subst this
      exact hd_catch (hh := [(0, 9, 12, 24)]) (pre := []) (z := (0, 9, 12, 24)) (suf := []) (name := "java/lang/IndexOutOfBoundsException") rfl (by unfold hd_X0_ruined; rw [hb]; rfl) rfl (fun _ h => absurd h List.not_mem_nil) hx (by decide) q1524 q1557 (Or.inl ⟨3, rfl, dX0_ruined_12, rfl⟩) (by decide)
    | false =>
      exact hd_stuck (by unfold hd_X0_ruined; rw [hb]; simp only [cond_true, cond_false, e0])
def hd_X0_fits : AHd := fun pc E => bif Nat.ble 0 pc && Nat.blt pc 9 then (bif Nat.beq E 24 then some (some (13, 3)) else none) else some none
theorem hok_X0_fits {γ : AG} (pc E : Nat) : HdOK γ m_X0_fits hd_X0_fits pc E := by
  cases hb : Nat.ble 0 pc && Nat.blt pc 9 with
  | false =>
    refine hd_out rfl (by unfold hd_X0_fits; rw [hb]; rfl) ?_
    intro z hz h
    have : (Nat.ble 0 pc && Nat.blt pc 9) = true := by
      simp only [List.mem_cons, List.not_mem_nil, or_false] at hz
      rcases hz with rfl
      · rw [Bool.and_eq_true]; exact ⟨Nat.ble_eq.mpr h.1, Nat.blt_eq.mpr h.2⟩
    rw [this] at hb; cases hb
  | true =>
    obtain ⟨h1, h2⟩ := bsplit hb
    have hx := And.intro (Nat.le_of_ble_eq_true h1) (Nat.blt_eq.mp h2)
    cases e0 : Nat.beq E 24 with
    | true =>
      have := Nat.eq_of_beq_eq_true e0
      subst this
      exact hd_catch (hh := [(0, 9, 12, 24)]) (pre := []) (z := (0, 9, 12, 24)) (suf := []) (name := "java/lang/IndexOutOfBoundsException") rfl (by unfold hd_X0_fits; rw [hb]; rfl) rfl (fun _ h => absurd h List.not_mem_nil) hx (by decide) q1524 q1557 (Or.inl ⟨3, rfl, dX0_fits_12, rfl⟩) (by decide)
    | false =>
      exact hd_stuck (by unfold hd_X0_fits; rw [hb]; simp only [cond_true, cond_false, e0])
def hd_X0_play : AHd := fun pc E => bif Nat.ble 0 pc && Nat.blt pc 12 then (bif Nat.beq E 22 then some (some (17, 5)) else bif Nat.beq E 25 then some (some (21, 5)) else none) else some none
theorem hok_X0_play {γ : AG} (pc E : Nat) : HdOK γ m_X0_play hd_X0_play pc E := by
  cases hb : Nat.ble 0 pc && Nat.blt pc 12 with
  | false =>
    refine hd_out rfl (by unfold hd_X0_play; rw [hb]; rfl) ?_
    intro z hz h
    have : (Nat.ble 0 pc && Nat.blt pc 12) = true := by
      simp only [List.mem_cons, List.not_mem_nil, or_false] at hz
      rcases hz with rfl | rfl
      · rw [Bool.and_eq_true]; exact ⟨Nat.ble_eq.mpr h.1, Nat.blt_eq.mpr h.2⟩
      · rw [Bool.and_eq_true]; exact ⟨Nat.ble_eq.mpr h.1, Nat.blt_eq.mpr h.2⟩
    rw [this] at hb; cases hb
  | true =>
    obtain ⟨h1, h2⟩ := bsplit hb
    have hx := And.intro (Nat.le_of_ble_eq_true h1) (Nat.blt_eq.mp h2)
    cases e0 : Nat.beq E 22 with
    | true =>
      have := Nat.eq_of_beq_eq_true e0
      subst this
      exact hd_catch (hh := [(0, 12, 15, 13), (0, 12, 19, 43)]) (pre := []) (z := (0, 12, 15, 13)) (suf := [(0, 12, 19, 43)]) (name := "java/lang/IllegalArgumentException") rfl (by unfold hd_X0_play; rw [hb]; rfl) rfl (fun _ h => absurd h List.not_mem_nil) hx (by decide) q768 q953 (Or.inr ⟨dX0_play_15, rfl⟩) (by decide)
    | false =>
      cases e1 : Nat.beq E 25 with
      | true =>
        have := Nat.eq_of_beq_eq_true e1
        subst this
        exact hd_catch (hh := [(0, 12, 15, 13), (0, 12, 19, 43)]) (pre := [(0, 12, 15, 13)]) (z := (0, 12, 19, 43)) (suf := []) (name := "java/util/NoSuchElementException") rfl (by unfold hd_X0_play; rw [hb]; rfl) rfl (List.forall_mem_cons.mpr ⟨⟨_, q768, by decide +kernel, by decide⟩, (fun _ h => absurd h List.not_mem_nil)⟩) hx (by decide) q1613 q1623 (Or.inr ⟨dX0_play_19, rfl⟩) (by decide)
      | false =>
        exact hd_stuck (by unfold hd_X0_play; rw [hb]; simp only [cond_true, cond_false, e0, e1])
def hd_X1_town : AHd := fun pc E => bif Nat.ble 15 pc && Nat.blt pc 28 then (bif Nat.beq E 17 then some (some (32, 2)) else none) else some none
theorem hok_X1_town {γ : AG} (pc E : Nat) : HdOK γ m_X1_town hd_X1_town pc E := by
  cases hb : Nat.ble 15 pc && Nat.blt pc 28 with
  | false =>
    refine hd_out rfl (by unfold hd_X1_town; rw [hb]; rfl) ?_
    intro z hz h
    have : (Nat.ble 15 pc && Nat.blt pc 28) = true := by
      simp only [List.mem_cons, List.not_mem_nil, or_false] at hz
      rcases hz with rfl
      · rw [Bool.and_eq_true]; exact ⟨Nat.ble_eq.mpr h.1, Nat.blt_eq.mpr h.2⟩
    rw [this] at hb; cases hb
  | true =>
    obtain ⟨h1, h2⟩ := bsplit hb
    have hx := And.intro (Nat.le_of_ble_eq_true h1) (Nat.blt_eq.mp h2)
    cases e0 : Nat.beq E 17 with
    | true =>
      have := Nat.eq_of_beq_eq_true e0
      subst this
      exact hd_catch (hh := [(15, 28, 31, 208)]) (pre := []) (z := (15, 28, 31, 208)) (suf := []) (name := "FavourTown$Wrong") rfl (by unfold hd_X1_town; rw [hb]; rfl) rfl (fun _ h => absurd h List.not_mem_nil) hx (by decide) q774 q1128 (Or.inl ⟨2, rfl, dX1_town_31, rfl⟩) (by decide)
    | false =>
      exact hd_stuck (by unfold hd_X1_town; rw [hb]; simp only [cond_true, cond_false, e0])
def hd_X1_temper : AHd := fun pc E => bif Nat.ble 9 pc && Nat.blt pc 22 then (bif Nat.beq E 17 then some (some (26, 2)) else none) else some none
theorem hok_X1_temper {γ : AG} (pc E : Nat) : HdOK γ m_X1_temper hd_X1_temper pc E := by
  cases hb : Nat.ble 9 pc && Nat.blt pc 22 with
  | false =>
    refine hd_out rfl (by unfold hd_X1_temper; rw [hb]; rfl) ?_
    intro z hz h
    have : (Nat.ble 9 pc && Nat.blt pc 22) = true := by
      simp only [List.mem_cons, List.not_mem_nil, or_false] at hz
      rcases hz with rfl
      · rw [Bool.and_eq_true]; exact ⟨Nat.ble_eq.mpr h.1, Nat.blt_eq.mpr h.2⟩
    rw [this] at hb; cases hb
  | true =>
    obtain ⟨h1, h2⟩ := bsplit hb
    have hx := And.intro (Nat.le_of_ble_eq_true h1) (Nat.blt_eq.mp h2)
    cases e0 : Nat.beq E 17 with
    | true =>
      have := Nat.eq_of_beq_eq_true e0
      subst this
      exact hd_catch (hh := [(9, 22, 25, 208)]) (pre := []) (z := (9, 22, 25, 208)) (suf := []) (name := "FavourTown$Wrong") rfl (by unfold hd_X1_temper; rw [hb]; rfl) rfl (fun _ h => absurd h List.not_mem_nil) hx (by decide) q774 q1128 (Or.inl ⟨2, rfl, dX1_temper_25, rfl⟩) (by decide)
    | false =>
      exact hd_stuck (by unfold hd_X1_temper; rw [hb]; simp only [cond_true, cond_false, e0])
noncomputable def tTree : Nat → Option AMth :=
 tn 156 (tn 78 (tn 39 (tn 19 (tn 9 (tn 4 (tn 2 (tn 1 (tl 0 ((k_X0_town, hd_X0_town, 3)))
  (tl 1 ((k_X0_temper, hd_X0_temper, 3))))
  (tn 3 (tl 2 ((k_X0_has, hd_X0_has, 5)))
  (tl 3 ((k_X0_give, hd_X0_give, 8)))))
  (tn 6 (tn 5 (tl 4 ((k_X0_pass, hd_X0_pass, 5)))
  (tl 5 ((k_X0_call, hd_X0_call, 4))))
  (tn 7 (tl 6 ((k_X0_days, hd_X0_days, 4)))
  (tn 8 (tl 7 ((k_X0_look, hd_X0_look, 5)))
  (tl 8 ((k_X0_hand, hd_X0_hand, 5)))))))
  (tn 14 (tn 11 (tn 10 (tl 9 ((k_X0_takes, hd_X0_takes, 5)))
  (tl 10 ((k_X0_rich, hd_X0_rich, 4))))
  (tn 12 (tl 11 ((k_X0_debt, hd_X0_debt, 4)))
  (tn 13 (tl 12 ((k_X0_owes, hd_X0_owes, 5)))
  (tl 13 ((k_X0_pays, hd_X0_pays, 6))))))
  (tn 16 (tn 15 (tl 14 ((k_X0_can, hd_X0_can, 4)))
  (tl 15 ((k_X0_meet, hd_X0_meet, 4))))
  (tn 17 (tl 16 ((k_X0_port, hd_X0_port, 5)))
  (tn 18 (tl 17 ((k_X0_most, hd_X0_most, 5)))
  (tl 18 ((k_X0_cut, hd_X0_cut, 5))))))))
  (tn 29 (tn 24 (tn 21 (tn 20 (tl 19 ((k_X0_chain, hd_X0_chain, 7)))
  (tl 20 ((k_X0_ring, hd_X0_ring, 3))))
  (tn 22 (tl 21 ((k_X0_clear, hd_X0_clear, 4)))
  (tn 23 (tl 22 ((k_X0_loss, hd_X0_loss, 5)))
  (tl 23 ((k_X0_ruined, hd_X0_ruined, 4))))))
  (tn 26 (tn 25 (tl 24 ((k_X0_fits, hd_X0_fits, 4)))
  (tl 25 ((k_X0_play, hd_X0_play, 6))))
  (tn 27 (tl 26 ((k_X1_init, (fun _ _ => some none), 1)))
  (tn 28 (tl 27 ((k_X1_feed, (fun _ _ => some none), 6)))
  (tl 28 ((k_X1_end, (fun _ _ => some none), 2)))))))
  (tn 34 (tn 31 (tn 30 (tl 29 ((k_X1_fault, (fun _ _ => some none), 1)))
  (tl 30 ((k_X1_enough, (fun _ _ => some none), 2))))
  (tn 32 (tl 31 ((k_X1_witness, (fun _ _ => some none), 2)))
  (tn 33 (tl 32 ((k_X1_fewest, (fun _ _ => some none), 3)))
  (tl 33 ((k_X1_forgive, (fun _ _ => some none), 5))))))
  (tn 36 (tn 35 (tl 34 ((k_X1_image, (fun _ _ => some none), 1)))
  (tl 35 ((k_X1_back, (fun _ _ => some none), 1))))
  (tn 37 (tl 36 ((k_X1_count, (fun _ _ => some none), 2)))
  (tn 38 (tl 37 ((k_X1_town, hd_X1_town, 3)))
  (tl 38 ((k_X1_townText, (fun _ _ => some none), 3)))))))))
  (tn 58 (tn 48 (tn 43 (tn 41 (tn 40 (tl 39 ((k_X1_noMore, (fun _ _ => some none), 3)))
  (tl 40 ((k_X1_in, (fun _ _ => some none), 3))))
  (tn 42 (tl 41 ((k_X1_townLine, (fun _ _ => some none), 11)))
  (tl 42 ((k_X1_someone, (fun _ _ => some none), 2)))))
  (tn 45 (tn 44 (tl 43 ((k_X1_another, (fun _ _ => some none), 4)))
  (tl 44 ((k_X1_givesTold, (fun _ _ => some none), 6))))
  (tn 46 (tl 45 ((k_X1_word, (fun _ _ => some none), 2)))
  (tn 47 (tl 46 ((k_X1_favourTold, (fun _ _ => some none), 2)))
  (tl 47 ((k_X1_goesOn, (fun _ _ => some none), 1)))))))
  (tn 53 (tn 50 (tn 49 (tl 48 ((k_X1_fails, (fun _ _ => some none), 1)))
  (tl 49 ((k_X1_temper, hd_X1_temper, 3))))
  (tn 51 (tl 50 ((k_X1_temperText, (fun _ _ => some none), 2)))
  (tn 52 (tl 51 ((k_X1_temperLine, (fun _ _ => some none), 3)))
  (tl 52 ((k_X1_cond, (fun _ _ => some none), 2))))))
  (tn 55 (tn 54 (tl 53 ((k_X1_allOf, (fun _ _ => some none), 2)))
  (tl 54 ((k_X1_atom, (fun _ _ => some none), 3))))
  (tn 56 (tl 55 ((k_X1_sum, (fun _ _ => some none), 2)))
  (tn 57 (tl 56 ((k_X1_onePart, (fun _ _ => some none), 2)))
  (tl 57 ((k_X1_has, (fun _ _ => some none), 4))))))))
  (tn 68 (tn 63 (tn 60 (tn 59 (tl 58 ((k_X1_person, (fun _ _ => some none), 2)))
  (tl 59 ((k_X1_there, (fun _ _ => some none), 2))))
  (tn 61 (tl 60 ((k_X1_give, (fun _ _ => some none), 6)))
  (tn 62 (tl 61 ((k_X1_two, (fun _ _ => some none), 3)))
  (tl 62 ((k_X1_demand, (fun _ _ => some none), 1))))))
  (tn 65 (tn 64 (tl 63 ((k_X1_pass, (fun _ _ => some none), 4)))
  (tl 64 ((k_X1_favourAt, (fun _ _ => some none), 2))))
  (tn 66 (tl 65 ((k_X1_call, (fun _ _ => some none), 3)))
  (tn 67 (tl 66 ((k_X1_days, (fun _ _ => some none), 2)))
  (tl 67 ((k_X1_look, (fun _ _ => some none), 4)))))))
  (tn 73 (tn 70 (tn 69 (tl 68 ((k_X1_asked, (fun _ _ => some none), 2)))
  (tl 69 ((k_X1_hand, (fun _ _ => some none), 4))))
  (tn 71 (tl 70 ((k_X1_takes, (fun _ _ => some none), 4)))
  (tn 72 (tl 71 ((k_X1_rich, (fun _ _ => some none), 2)))
  (tl 72 ((k_X1_debt, (fun _ _ => some none), 2))))))
  (tn 75 (tn 74 (tl 73 ((k_X1_owes, (fun _ _ => some none), 3)))
  (tl 74 ((k_X1_pays, (fun _ _ => some none), 4))))
  (tn 76 (tl 75 ((k_X1_can, (fun _ _ => some none), 3)))
  (tn 77 (tl 76 ((k_X1_needAt, (fun _ _ => some none), 2)))
  (tl 77 ((k_X1_meet, (fun _ _ => some none), 3))))))))))
  (tn 117 (tn 97 (tn 87 (tn 82 (tn 80 (tn 79 (tl 78 ((k_X1_port, (fun _ _ => some none), 3)))
  (tl 79 ((k_X1_most, (fun _ _ => some none), 3))))
  (tn 81 (tl 80 ((k_X1_cut, (fun _ _ => some none), 3)))
  (tl 81 ((k_X1_chain, (fun _ _ => some none), 8)))))
  (tn 84 (tn 83 (tl 82 ((k_X1_steps, (fun _ _ => some none), 6)))
  (tl 83 ((k_X1_ring, (fun _ _ => some none), 5))))
  (tn 85 (tl 84 ((k_X1_clear, (fun _ _ => some none), 3)))
  (tn 86 (tl 85 ((k_X1_loss, (fun _ _ => some none), 3)))
  (tl 86 ((k_X1_ruined, (fun _ _ => some none), 4)))))))
  (tn 92 (tn 89 (tn 88 (tl 87 ((k_X1_fits, (fun _ _ => some none), 6)))
  (tl 88 ((k_X1_play, (fun _ _ => some none), 13))))
  (tn 90 (tl 89 ((k_X2_init, (fun _ _ => some none), 1)))
  (tn 91 (tl 90 ((k_X2_unmet, (fun _ _ => some none), 4)))
  (tl 91 ((k_X2_isMet, (fun _ _ => some none), 4))))))
  (tn 94 (tn 93 (tl 92 ((k_X2_pays, (fun _ _ => some none), 8)))
  (tl 93 ((k_X2_canPass, (fun _ _ => some none), 3))))
  (tn 95 (tl 94 ((k_X2_isGone, (fun _ _ => some none), 2)))
  (tn 96 (tl 95 ((k_X2_takes, (fun _ _ => some none), 3)))
  (tl 96 ((k_X2_sees, (fun _ _ => some none), 5))))))))
  (tn 107 (tn 102 (tn 99 (tn 98 (tl 97 ((k_X2_rich, (fun _ _ => some none), 5)))
  (tl 98 ((k_X2_debt, (fun _ _ => some none), 5))))
  (tn 100 (tl 99 ((k_X2_worthThen, (fun _ _ => some none), 2)))
  (tn 101 (tl 100 ((k_X2_canGive, (fun _ _ => some none), 6)))
  (tl 101 ((k_X2_copy, (fun _ _ => some none), 3))))))
  (tn 104 (tn 103 (tl 102 ((k_X2_alive, (fun _ _ => some none), 3)))
  (tl 103 ((k_X2_pairs, (fun _ _ => some none), 6))))
  (tn 105 (tl 104 ((k_X2_gives, (fun _ _ => some none), 7)))
  (tn 106 (tl 105 ((k_X2_passes, (fun _ _ => some none), 5)))
  (tl 106 ((k_X2_days, (fun _ _ => some none), 6)))))))
  (tn 112 (tn 109 (tn 108 (tl 107 ((k_X2_owes, (fun _ _ => some none), 6)))
  (tl 108 ((k_X2_meets, (fun _ _ => some none), 5))))
  (tn 110 (tl 109 ((k_X2_port, (fun _ _ => some none), 6)))
  (tn 111 (tl 110 ((k_J0_init, (fun _ _ => some none), 1)))
  (tl 111 ((k_J1_init, (fun _ _ => some none), 1))))))
  (tn 114 (tn 113 (tl 112 ((k_J2_init, (fun _ _ => some none), 1)))
  (tl 113 ((k_J2_size, (fun _ _ => some none), 1))))
  (tn 115 (tl 114 ((k_J2_get, (fun _ _ => some none), 2)))
  (tn 116 (tl 115 ((k_J2_elementData, (fun _ _ => some none), 2)))
  (tl 116 ((k_J2_add, (fun _ _ => some none), 2)))))))))
  (tn 136 (tn 126 (tn 121 (tn 119 (tn 118 (tl 117 ((k_J2_add_2, (fun _ _ => some none), 4)))
  (tl 118 ((k_J2_grow, (fun _ _ => some none), 1))))
  (tn 120 (tl 119 ((k_J2_grow_2, (fun _ _ => some none), 4)))
  (tl 120 ((k_J2_addAll, (fun _ _ => some none), 6)))))
  (tn 123 (tn 122 (tl 121 ((k_J2_toArray, (fun _ _ => some none), 1)))
  (tl 122 ((k_X3_init, (fun _ _ => some none), 1))))
  (tn 124 (tl 123 ((k_X3_is, (fun _ _ => some none), 2)))
  (tn 125 (tl 124 ((k_X3_of, (fun _ _ => some none), 2)))
  (tl 125 ((k_X4_init, (fun _ _ => some none), 1)))))))
  (tn 131 (tn 128 (tn 127 (tl 126 ((k_X4_add, (fun _ _ => some none), 7)))
  (tl 127 ((k_X4_cut, (fun _ _ => some none), 2))))
  (tn 129 (tl 128 ((k_X4_begins, (fun _ _ => some none), 1)))
  (tn 130 (tl 129 ((k_X4_isOver, (fun _ _ => some none), 1)))
  (tl 130 ((k_X4_blanks, (fun _ _ => some none), 1))))))
  (tn 133 (tn 132 (tl 131 ((k_X4_byteAt, (fun _ _ => some none), 2)))
  (tl 132 ((k_X4_word, (fun _ _ => some none), 3))))
  (tn 134 (tl 133 ((k_X4_wrong, (fun _ _ => some none), 1)))
  (tn 135 (tl 134 ((k_X4_number, (fun _ _ => some none), 4)))
  (tl 135 ((k_X4_passes, (fun _ _ => some none), 2))))))))
  (tn 146 (tn 141 (tn 138 (tn 137 (tl 136 ((k_X4_sign, (fun _ _ => some none), 2)))
  (tl 137 ((k_X4_goesDeeper, (fun _ _ => some none), 1))))
  (tn 139 (tl 138 ((k_X4_comesUp, (fun _ _ => some none), 1)))
  (tn 140 (tl 139 ((k_X4_isFigure, (fun _ _ => some none), 1)))
  (tl 140 ((k_X5_init, (fun _ _ => some none), 2))))))
  (tn 143 (tn 142 (tl 141 ((k_X5_begins, (fun _ _ => some none), 3)))
  (tl 142 ((k_X5_most, (fun _ _ => some none), 6))))
  (tn 144 (tl 143 ((k_X5_reached, (fun _ _ => some none), 6)))
  (tn 145 (tl 144 ((k_X6_init, (fun _ _ => some none), 2)))
  (tl 145 ((k_X6_goes, (fun _ _ => some none), 3)))))))
  (tn 151 (tn 148 (tn 147 (tl 146 ((k_X6_tries, (fun _ _ => some none), 7)))
  (tl 147 ((k_X6_least, (fun _ _ => some none), 4))))
  (tn 149 (tl 148 ((k_X6_takes, (fun _ _ => some none), 4)))
  (tn 150 (tl 149 ((k_X7_init, (fun _ _ => some none), 1)))
  (tl 150 ((k_X7_thrown, (fun _ _ => some none), 1))))))
  (tn 153 (tn 152 (tl 151 ((k_X7_feed, (fun _ _ => some none), 8)))
  (tl 152 ((k_X7_end, (fun _ _ => some none), 2))))
  (tn 154 (tl 153 ((k_X7_isIn, (fun _ _ => some none), 3)))
  (tn 155 (tl 154 ((k_X7_town, (fun _ _ => some none), 2)))
  (tl 155 ((k_X7_read, (fun _ _ => some none), 3)))))))))))
  (tn 234 (tn 195 (tn 175 (tn 165 (tn 160 (tn 158 (tn 157 (tl 156 ((k_X7_skip, (fun _ _ => some none), 1)))
  (tl 157 ((k_X7_letter, (fun _ _ => some none), 2))))
  (tn 159 (tl 158 ((k_X7_wrong, (fun _ _ => some none), 2)))
  (tl 159 ((k_X7_temperLine, (fun _ _ => some none), 3)))))
  (tn 162 (tn 161 (tl 160 ((k_X7_has0, (fun _ _ => some none), 4)))
  (tl 161 ((k_X7_some, (fun _ _ => some none), 3))))
  (tn 163 (tl 162 ((k_X7_every, (fun _ _ => some none), 3)))
  (tn 164 (tl 163 ((k_X7_atom, (fun _ _ => some none), 4)))
  (tl 164 ((k_X7_isSign, (fun _ _ => some none), 2)))))))
  (tn 170 (tn 167 (tn 166 (tl 165 ((k_X7_plain, (fun _ _ => some none), 4)))
  (tl 166 ((k_X7_sum, (fun _ _ => some none), 2))))
  (tn 168 (tl 167 ((k_X7_part, (fun _ _ => some none), 2)))
  (tn 169 (tl 168 ((k_X7_figures, (fun _ _ => some none), 5)))
  (tl 169 ((k_X7_townLine, (fun _ _ => some none), 7))))))
  (tn 172 (tn 171 (tl 170 ((k_X7_person, (fun _ _ => some none), 4)))
  (tl 171 ((k_X7_must, (fun _ _ => some none), 2))))
  (tn 173 (tl 172 ((k_X7_gives, (fun _ _ => some none), 9)))
  (tn 174 (tl 173 ((k_X7_canGive, (fun _ _ => some none), 6)))
  (tl 174 ((k_X7_debtOf, (fun _ _ => some none), 4))))))))
  (tn 185 (tn 180 (tn 177 (tn 176 (tl 175 ((k_X7_of, (fun _ _ => some none), 3)))
  (tl 176 ((k_X7_wouldTake, (fun _ _ => some none), 14))))
  (tn 178 (tl 177 ((k_X7_worthOf, (fun _ _ => some none), 2)))
  (tn 179 (tl 178 ((k_X7_richOf, (fun _ _ => some none), 4)))
  (tl 179 ((k_X7_isNearTo, (fun _ _ => some none), 3))))))
  (tn 182 (tn 181 (tl 180 ((k_X7_sets, (fun _ _ => some none), 4)))
  (tl 181 ((k_X7_passes, (fun _ _ => some none), 4))))
  (tn 183 (tl 182 ((k_X7_canPass, (fun _ _ => some none), 3)))
  (tn 184 (tl 183 ((k_X7_wouldPass, (fun _ _ => some none), 5)))
  (tl 184 ((k_X7_goOn, (fun _ _ => some none), 4)))))))
  (tn 190 (tn 187 (tn 186 (tl 185 ((k_X7_temper, (fun _ _ => some none), 4)))
  (tl 186 ((k_X7_fault, (fun _ _ => some none), 1))))
  (tn 188 (tl 187 ((k_X7_has, (fun _ _ => some none), 4)))
  (tn 189 (tl 188 ((k_X7_isPerson, (fun _ _ => some none), 2)))
  (tl 189 ((k_X7_give, (fun _ _ => some none), 6))))))
  (tn 192 (tn 191 (tl 190 ((k_X7_pass, (fun _ _ => some none), 3)))
  (tl 191 ((k_X7_isFavour, (fun _ _ => some none), 2))))
  (tn 193 (tl 192 ((k_X7_call, (fun _ _ => some none), 2)))
  (tn 194 (tl 193 ((k_X7_days, (fun _ _ => some none), 2)))
  (tl 194 ((k_X7_look, (fun _ _ => some none), 3)))))))))
  (tn 214 (tn 204 (tn 199 (tn 197 (tn 196 (tl 195 ((k_X7_hand, (fun _ _ => some none), 3)))
  (tl 196 ((k_X7_takes, (fun _ _ => some none), 3))))
  (tn 198 (tl 197 ((k_X7_rich, (fun _ _ => some none), 2)))
  (tl 198 ((k_X7_debt, (fun _ _ => some none), 2)))))
  (tn 201 (tn 200 (tl 199 ((k_X7_owes, (fun _ _ => some none), 3)))
  (tl 200 ((k_X7_owesOf, (fun _ _ => some none), 5))))
  (tn 202 (tl 201 ((k_X7_pays, (fun _ _ => some none), 4)))
  (tn 203 (tl 202 ((k_X7_paysBy, (fun _ _ => some none), 8)))
  (tl 203 ((k_X7_goes, (fun _ _ => some none), 4)))))))
  (tn 209 (tn 206 (tn 205 (tl 204 ((k_X7_can, (fun _ _ => some none), 2)))
  (tl 205 ((k_X7_isNeed, (fun _ _ => some none), 2))))
  (tn 207 (tl 206 ((k_X7_canNeed, (fun _ _ => some none), 2)))
  (tn 208 (tl 207 ((k_X7_canMeet, (fun _ _ => some none), 4)))
  (tl 208 ((k_X7_meet, (fun _ _ => some none), 2))))))
  (tn 211 (tn 210 (tl 209 ((k_X7_meets, (fun _ _ => some none), 5)))
  (tl 210 ((k_X7_enough, (fun _ _ => some none), 2))))
  (tn 212 (tl 211 ((k_X7_witnessOf, (fun _ _ => some none), 4)))
  (tn 213 (tl 212 ((k_X7_lets, (fun _ _ => some none), 5)))
  (tl 213 ((k_X7_witness, (fun _ _ => some none), 2))))))))
  (tn 224 (tn 219 (tn 216 (tn 215 (tl 214 ((k_X7_fewest, (fun _ _ => some none), 3)))
  (tl 215 ((k_X7_bits, (fun _ _ => some none), 3))))
  (tn 217 (tl 216 ((k_X7_forgive, (fun _ _ => some none), 2)))
  (tn 218 (tl 217 ((k_X7_port, (fun _ _ => some none), 3)))
  (tl 218 ((k_X7_twoOf, (fun _ _ => some none), 3))))))
  (tn 221 (tn 220 (tl 219 ((k_X7_portOf, (fun _ _ => some none), 5)))
  (tl 220 ((k_X7_most, (fun _ _ => some none), 3))))
  (tn 222 (tl 221 ((k_X7_flows, (fun _ _ => some none), 6)))
  (tn 223 (tl 222 ((k_X7_allPorts, (fun _ _ => some none), 3)))
  (tl 223 ((k_X7_reaches, (fun _ _ => some none), 7)))))))
  (tn 229 (tn 226 (tn 225 (tl 224 ((k_X7_cut, (fun _ _ => some none), 3)))
  (tl 225 ((k_X7_chain, (fun _ _ => some none), 8))))
  (tn 227 (tl 226 ((k_X7_ring, (fun _ _ => some none), 5)))
  (tn 228 (tl 227 ((k_X7_clear, (fun _ _ => some none), 4)))
  (tl 228 ((k_X7_orders, (fun _ _ => some none), 6))))))
  (tn 231 (tn 230 (tl 229 ((k_X7_ringOf, (fun _ _ => some none), 7)))
  (tl 230 ((k_X7_putsBack, (fun _ _ => some none), 5))))
  (tn 232 (tl 231 ((k_X7_loss, (fun _ _ => some none), 3)))
  (tn 233 (tl 232 ((k_X7_lossOf, (fun _ _ => some none), 6)))
  (tl 233 ((k_X7_ruined, (fun _ _ => some none), 6))))))))))
  (tn 277 (tn 253 (tn 243 (tn 238 (tn 236 (tn 235 (tl 234 ((k_X7_fits, (fun _ _ => some none), 4)))
  (tl 235 ((k_X7_play, (fun _ _ => some none), 12))))
  (tn 237 (tl 236 ((k_X7_draws, (fun _ _ => some none), 2)))
  (tl 237 ((k_X7_image, (fun _ _ => some none), 2)))))
  (tn 240 (tn 239 (tl 238 ((k_X7_back, (fun _ _ => some none), 2)))
  (tl 239 ((k_X7_count, (fun _ _ => some none), 5))))
  (tn 241 (tl 240 ((k_J3_checkIndex, (fun _ _ => some none), 2)))
  (tn 242 (tl 241 ((k_J4_checkIndex, (fun _ _ => some none), 3)))
  (tl 242 ((k_X8_end, (fun _ _ => some none), 1)))))))
  (tn 248 (tn 245 (tn 244 (tl 243 ((k_X8_worthAt, (fun _ _ => some none), 2)))
  (tl 244 ((k_X8_wasHeldBy, (fun _ _ => some none), 3))))
  (tn 246 (tl 245 ((k_X8_init, (fun _ _ => some none), 5)))
  (tn 247 (tl 246 ((k_X8_takes, (fun _ _ => some none), 2)))
  (tl 247 ((k_X8_copy, (fun _ _ => some none), 1))))))
  (tn 250 (tn 249 (tl 248 ((k_X8_goes, (fun _ _ => some none), 2)))
  (tl 249 ((k_X9_end, (fun _ _ => some none), 1))))
  (tn 251 (tl 250 ((k_X9_copy, (fun _ _ => some none), 1)))
  (tn 252 (tl 251 ((k_X9_init, (fun _ _ => some none), 6)))
  (tl 252 ((k_J5_newLength, (fun _ _ => some none), 4))))))))
  (tn 263 (tn 258 (tn 255 (tn 254 (tl 253 ((k_J5_vectorizedHashCode, (fun _ _ => some none), 5)))
  (tl 254 ((k_J5_signedHashCode, (fun _ _ => some none), 6))))
  (tn 256 (tl 255 ((k_J7_copyOf, (fun _ _ => some none), 2)))
  (tn 257 (tl 256 ((k_J7_copyOf_2, (fun _ _ => some none), 4)))
  (tl 257 ((k_J7_copyOf_3, (fun _ _ => some none), 3))))))
  (tn 260 (tn 259 (tl 258 ((k_J7_copyOfRange, (fun _ _ => some none), 3)))
  (tl 259 ((k_J7_copyOfRangeByte, (fun _ _ => some none), 5))))
  (tn 261 (tl 260 ((k_J7_checkLength, (fun _ _ => some none), 2)))
  (tn 262 (tl 261 ((k_J7_fill, (fun _ _ => some none), 4)))
  (tl 262 ((k_J8_init, (fun _ _ => some none), 2)))))))
  (tn 269 (tn 265 (tn 264 (tl 263 ((k_J8_append, (fun _ _ => some none), 2)))
  (tl 264 ((k_J8_ensureCapacityInternal, (fun _ _ => some none), 3))))
  (tn 266 (tl 265 ((k_J8_newCapacity, (fun _ _ => some none), 6)))
  (tn 268 (tl 266 ((k_J8_isLatin1, (fun _ _ => some none), 1)))
  (tl 268 ((k_J8_getValue, (fun _ _ => some none), 1))))))
  (tn 274 (tn 273 (tl 269 ((k_J8_length, (fun _ _ => some none), 1)))
  (tl 273 ((k_J9_init, (fun _ _ => some none), 1))))
  (tn 275 (tl 274 ((k_J9_append, (fun _ _ => some none), 2)))
  (tn 276 (tl 275 ((k_J9_toString, (fun _ _ => some none), 1)))
  (tl 276 ((k_J9_length, (fun _ _ => some none), 1)))))))))
  (tn 303 (tn 289 (tn 283 (tn 279 (tn 278 (tl 277 ((k_J10_checkIndex, (fun _ _ => some none), 2)))
  (tl 278 ((k_J10_init, (fun _ _ => some none), 2))))
  (tn 280 (tl 279 ((k_J10_init_2, (fun _ _ => some none), 5)))
  (tn 281 (tl 280 ((k_J10_length, (fun _ _ => some none), 1)))
  (tl 281 ((k_J10_coder, (fun _ _ => some none), 1))))))
  (tn 285 (tn 284 (tl 283 ((k_J10_hashCode, (fun _ _ => some none), 2)))
  (tl 284 ((k_J10_isLatin1, (fun _ _ => some none), 1))))
  (tn 286 (tl 285 ((k_J10_equals, (fun _ _ => some none), 3)))
  (tn 287 (tl 286 ((k_J10_charAt, (fun _ _ => some none), 2)))
  (tl 287 ((k_J12_canEncode, (fun _ _ => some none), 1)))))))
  (tn 295 (tn 291 (tn 290 (tl 289 ((k_J12_hashCode, (fun _ _ => some none), 1)))
  (tl 290 ((k_J12_equals, (fun _ _ => some none), 3))))
  (tn 293 (tl 291 ((k_J12_charAt, (fun _ _ => some none), 2)))
  (tn 294 (tl 293 ((k_J13_init_2, (fun _ _ => some none), 2)))
  (tl 294 ((k_J13_init_3, (fun _ _ => some none), 5))))))
  (tn 298 (tn 296 (tl 295 ((k_J14_init, (fun _ _ => some none), 2)))
  (tl 296 ((k_J14_init_2, (fun _ _ => some none), 5))))
  (tn 300 (tl 298 ((k_J15_init, (fun _ _ => some none), 2)))
  (tn 302 (tl 300 ((k_J16_init, (fun _ _ => some none), 2)))
  (tl 302 ((k_J17_bitCount, (fun _ _ => some none), 1))))))))
  (tn 314 (tn 309 (tn 305 (tn 304 (tl 303 ((k_X10_init, (fun _ _ => some none), 1)))
  (tl 304 ((k_J18_ordinal, (fun _ _ => some none), 1))))
  (tn 307 (tl 305 ((k_X11_init, (fun _ _ => some none), 4)))
  (tn 308 (tl 307 ((k_X12_takes, (fun _ _ => some none), 4)))
  (tl 308 ((k_X12_init, (fun _ _ => some none), 1))))))
  (tn 311 (tn 310 (tl 309 ((k_X13_init, (fun _ _ => some none), 3)))
  (tl 310 ((k_X14_holds, (fun _ _ => some none), 3))))
  (tn 312 (tl 311 ((k_X14_init, (fun _ _ => some none), 2)))
  (tn 313 (tl 312 ((k_X15_holds, (fun _ _ => some none), 2)))
  (tl 313 ((k_X15_init, (fun _ _ => some none), 2)))))))
  (tn 319 (tn 316 (tn 315 (tl 314 ((k_X16_holds, (fun _ _ => some none), 2)))
  (tl 315 ((k_X16_init, (fun _ _ => some none), 2))))
  (tn 317 (tl 316 ((k_X17_in, (fun _ _ => some none), 4)))
  (tn 318 (tl 317 ((k_X17_init, (fun _ _ => some none), 1)))
  (tl 318 ((k_X18_in, (fun _ _ => some none), 2))))))
  (tn 321 (tn 320 (tl 319 ((k_X18_init, (fun _ _ => some none), 3)))
  (tl 320 ((k_X19_of, (fun _ _ => some none), 5))))
  (tn 322 (tl 321 ((k_X19_values, (fun _ _ => some none), 0)))
  (tn 323 (tl 322 ((k_X20_holds, (fun _ _ => some none), 2)))
  (tl 323 ((k_X20_init, (fun _ _ => some none), 3)))))))))))
noncomputable def tTab (y : Nat) : AMth := match tTree y with
  | some a => a
  | none => (t0, fun _ _ => none, 0)
theorem tTree_ok {γ : AG} (hm : γ.2.2.2.2.1 = mTab) (hk : γ.2.2.2.2.2 = kTab) : TOK γ tTree :=
 tn_ok
 (tn_ok
 (tn_ok
 (tn_ok
 (tn_ok
 (tn_ok
 (tn_ok
 (tn_ok
 (tl_ok (by rw [hm]; exact (show MthOK γ m_X0_town _ from ⟨by decide +kernel, rfl, kok_X0_town hm hk, fun pc _ E _ => hok_X0_town pc E⟩)))
 (tl_ok (by rw [hm]; exact (show MthOK γ m_X0_temper _ from ⟨by decide +kernel, rfl, kok_X0_temper hm hk, fun pc _ E _ => hok_X0_temper pc E⟩))))
 (tn_ok
 (tl_ok (by rw [hm]; exact (show MthOK γ m_X0_has _ from ⟨by decide +kernel, rfl, kok_X0_has hm hk, fun pc _ E _ => hok_X0_has pc E⟩)))
 (tl_ok (by rw [hm]; exact (show MthOK γ m_X0_give _ from ⟨by decide +kernel, rfl, kok_X0_give hm hk, fun pc _ E _ => hok_X0_give pc E⟩)))))
 (tn_ok
 (tn_ok
 (tl_ok (by rw [hm]; exact (show MthOK γ m_X0_pass _ from ⟨by decide +kernel, rfl, kok_X0_pass hm hk, fun pc _ E _ => hok_X0_pass pc E⟩)))
 (tl_ok (by rw [hm]; exact (show MthOK γ m_X0_call _ from ⟨by decide +kernel, rfl, kok_X0_call hm hk, fun pc _ E _ => hok_X0_call pc E⟩))))
 (tn_ok
 (tl_ok (by rw [hm]; exact (show MthOK γ m_X0_days _ from ⟨by decide +kernel, rfl, kok_X0_days hm hk, fun pc _ E _ => hok_X0_days pc E⟩)))
 (tn_ok
 (tl_ok (by rw [hm]; exact (show MthOK γ m_X0_look _ from ⟨by decide +kernel, rfl, kok_X0_look hm hk, fun pc _ E _ => hok_X0_look pc E⟩)))
 (tl_ok (by rw [hm]; exact (show MthOK γ m_X0_hand _ from ⟨by decide +kernel, rfl, kok_X0_hand hm hk, fun pc _ E _ => hok_X0_hand pc E⟩)))))))
 (tn_ok
 (tn_ok
 (tn_ok
 (tl_ok (by rw [hm]; exact (show MthOK γ m_X0_takes _ from ⟨by decide +kernel, rfl, kok_X0_takes hm hk, fun pc _ E _ => hok_X0_takes pc E⟩)))
 (tl_ok (by rw [hm]; exact (show MthOK γ m_X0_rich _ from ⟨by decide +kernel, rfl, kok_X0_rich hm hk, fun pc _ E _ => hok_X0_rich pc E⟩))))
 (tn_ok
 (tl_ok (by rw [hm]; exact (show MthOK γ m_X0_debt _ from ⟨by decide +kernel, rfl, kok_X0_debt hm hk, fun pc _ E _ => hok_X0_debt pc E⟩)))
 (tn_ok
 (tl_ok (by rw [hm]; exact (show MthOK γ m_X0_owes _ from ⟨by decide +kernel, rfl, kok_X0_owes hm hk, fun pc _ E _ => hok_X0_owes pc E⟩)))
 (tl_ok (by rw [hm]; exact (show MthOK γ m_X0_pays _ from ⟨by decide +kernel, rfl, kok_X0_pays hm hk, fun pc _ E _ => hok_X0_pays pc E⟩))))))
 (tn_ok
 (tn_ok
 (tl_ok (by rw [hm]; exact (show MthOK γ m_X0_can _ from ⟨by decide +kernel, rfl, kok_X0_can hm hk, fun pc _ E _ => hok_X0_can pc E⟩)))
 (tl_ok (by rw [hm]; exact (show MthOK γ m_X0_meet _ from ⟨by decide +kernel, rfl, kok_X0_meet hm hk, fun pc _ E _ => hok_X0_meet pc E⟩))))
 (tn_ok
 (tl_ok (by rw [hm]; exact (show MthOK γ m_X0_port _ from ⟨by decide +kernel, rfl, kok_X0_port hm hk, fun pc _ E _ => hok_X0_port pc E⟩)))
 (tn_ok
 (tl_ok (by rw [hm]; exact (show MthOK γ m_X0_most _ from ⟨by decide +kernel, rfl, kok_X0_most hm hk, fun pc _ E _ => hok_X0_most pc E⟩)))
 (tl_ok (by rw [hm]; exact (show MthOK γ m_X0_cut _ from ⟨by decide +kernel, rfl, kok_X0_cut hm hk, fun pc _ E _ => hok_X0_cut pc E⟩))))))))
 (tn_ok
 (tn_ok
 (tn_ok
 (tn_ok
 (tl_ok (by rw [hm]; exact (show MthOK γ m_X0_chain _ from ⟨by decide +kernel, rfl, kok_X0_chain hm hk, fun pc _ E _ => hok_X0_chain pc E⟩)))
 (tl_ok (by rw [hm]; exact (show MthOK γ m_X0_ring _ from ⟨by decide +kernel, rfl, kok_X0_ring hm hk, fun pc _ E _ => hok_X0_ring pc E⟩))))
 (tn_ok
 (tl_ok (by rw [hm]; exact (show MthOK γ m_X0_clear _ from ⟨by decide +kernel, rfl, kok_X0_clear hm hk, fun pc _ E _ => hok_X0_clear pc E⟩)))
 (tn_ok
 (tl_ok (by rw [hm]; exact (show MthOK γ m_X0_loss _ from ⟨by decide +kernel, rfl, kok_X0_loss hm hk, fun pc _ E _ => hok_X0_loss pc E⟩)))
 (tl_ok (by rw [hm]; exact (show MthOK γ m_X0_ruined _ from ⟨by decide +kernel, rfl, kok_X0_ruined hm hk, fun pc _ E _ => hok_X0_ruined pc E⟩))))))
 (tn_ok
 (tn_ok
 (tl_ok (by rw [hm]; exact (show MthOK γ m_X0_fits _ from ⟨by decide +kernel, rfl, kok_X0_fits hm hk, fun pc _ E _ => hok_X0_fits pc E⟩)))
 (tl_ok (by rw [hm]; exact (show MthOK γ m_X0_play _ from ⟨by decide +kernel, rfl, kok_X0_play hm hk, fun pc _ E _ => hok_X0_play pc E⟩))))
 (tn_ok
 (tl_ok (by rw [hm]; exact (show MthOK γ m_X1_init _ from ⟨by decide +kernel, rfl, kok_X1_init hm hk, fun pc _ E _ => hd_none rfl pc E⟩)))
 (tn_ok
 (tl_ok (by rw [hm]; exact (show MthOK γ m_X1_feed _ from ⟨by decide +kernel, rfl, kok_X1_feed hm hk, fun pc _ E _ => hd_none rfl pc E⟩)))
 (tl_ok (by rw [hm]; exact (show MthOK γ m_X1_end _ from ⟨by decide +kernel, rfl, kok_X1_end hm hk, fun pc _ E _ => hd_none rfl pc E⟩)))))))
 (tn_ok
 (tn_ok
 (tn_ok
 (tl_ok (by rw [hm]; exact (show MthOK γ m_X1_fault _ from ⟨by decide +kernel, rfl, kok_X1_fault hm hk, fun pc _ E _ => hd_none rfl pc E⟩)))
 (tl_ok (by rw [hm]; exact (show MthOK γ m_X1_enough _ from ⟨by decide +kernel, rfl, kok_X1_enough hm hk, fun pc _ E _ => hd_none rfl pc E⟩))))
 (tn_ok
 (tl_ok (by rw [hm]; exact (show MthOK γ m_X1_witness _ from ⟨by decide +kernel, rfl, kok_X1_witness hm hk, fun pc _ E _ => hd_none rfl pc E⟩)))
 (tn_ok
 (tl_ok (by rw [hm]; exact (show MthOK γ m_X1_fewest _ from ⟨by decide +kernel, rfl, kok_X1_fewest hm hk, fun pc _ E _ => hd_none rfl pc E⟩)))
 (tl_ok (by rw [hm]; exact (show MthOK γ m_X1_forgive _ from ⟨by decide +kernel, rfl, kok_X1_forgive hm hk, fun pc _ E _ => hd_none rfl pc E⟩))))))
 (tn_ok
 (tn_ok
 (tl_ok (by rw [hm]; exact (show MthOK γ m_X1_image _ from ⟨by decide +kernel, rfl, kok_X1_image hm hk, fun pc _ E _ => hd_none rfl pc E⟩)))
 (tl_ok (by rw [hm]; exact (show MthOK γ m_X1_back _ from ⟨by decide +kernel, rfl, kok_X1_back hm hk, fun pc _ E _ => hd_none rfl pc E⟩))))
 (tn_ok
 (tl_ok (by rw [hm]; exact (show MthOK γ m_X1_count _ from ⟨by decide +kernel, rfl, kok_X1_count hm hk, fun pc _ E _ => hd_none rfl pc E⟩)))
 (tn_ok
 (tl_ok (by rw [hm]; exact (show MthOK γ m_X1_town _ from ⟨by decide +kernel, rfl, kok_X1_town hm hk, fun pc _ E _ => hok_X1_town pc E⟩)))
 (tl_ok (by rw [hm]; exact (show MthOK γ m_X1_townText _ from ⟨by decide +kernel, rfl, kok_X1_townText hm hk, fun pc _ E _ => hd_none rfl pc E⟩)))))))))
 (tn_ok
 (tn_ok
 (tn_ok
 (tn_ok
 (tn_ok
 (tl_ok (by rw [hm]; exact (show MthOK γ m_X1_noMore _ from ⟨by decide +kernel, rfl, kok_X1_noMore hm hk, fun pc _ E _ => hd_none rfl pc E⟩)))
 (tl_ok (by rw [hm]; exact (show MthOK γ m_X1_in _ from ⟨by decide +kernel, rfl, kok_X1_in hm hk, fun pc _ E _ => hd_none rfl pc E⟩))))
 (tn_ok
 (tl_ok (by rw [hm]; exact (show MthOK γ m_X1_townLine _ from ⟨by decide +kernel, rfl, kok_X1_townLine hm hk, fun pc _ E _ => hd_none rfl pc E⟩)))
 (tl_ok (by rw [hm]; exact (show MthOK γ m_X1_someone _ from ⟨by decide +kernel, rfl, kok_X1_someone hm hk, fun pc _ E _ => hd_none rfl pc E⟩)))))
 (tn_ok
 (tn_ok
 (tl_ok (by rw [hm]; exact (show MthOK γ m_X1_another _ from ⟨by decide +kernel, rfl, kok_X1_another hm hk, fun pc _ E _ => hd_none rfl pc E⟩)))
 (tl_ok (by rw [hm]; exact (show MthOK γ m_X1_givesTold _ from ⟨by decide +kernel, rfl, kok_X1_givesTold hm hk, fun pc _ E _ => hd_none rfl pc E⟩))))
 (tn_ok
 (tl_ok (by rw [hm]; exact (show MthOK γ m_X1_word _ from ⟨by decide +kernel, rfl, kok_X1_word hm hk, fun pc _ E _ => hd_none rfl pc E⟩)))
 (tn_ok
 (tl_ok (by rw [hm]; exact (show MthOK γ m_X1_favourTold _ from ⟨by decide +kernel, rfl, kok_X1_favourTold hm hk, fun pc _ E _ => hd_none rfl pc E⟩)))
 (tl_ok (by rw [hm]; exact (show MthOK γ m_X1_goesOn _ from ⟨by decide +kernel, rfl, kok_X1_goesOn hm hk, fun pc _ E _ => hd_none rfl pc E⟩)))))))
 (tn_ok
 (tn_ok
 (tn_ok
 (tl_ok (by rw [hm]; exact (show MthOK γ m_X1_fails _ from ⟨by decide +kernel, rfl, kok_X1_fails hm hk, fun pc _ E _ => hd_none rfl pc E⟩)))
 (tl_ok (by rw [hm]; exact (show MthOK γ m_X1_temper _ from ⟨by decide +kernel, rfl, kok_X1_temper hm hk, fun pc _ E _ => hok_X1_temper pc E⟩))))
 (tn_ok
 (tl_ok (by rw [hm]; exact (show MthOK γ m_X1_temperText _ from ⟨by decide +kernel, rfl, kok_X1_temperText hm hk, fun pc _ E _ => hd_none rfl pc E⟩)))
 (tn_ok
 (tl_ok (by rw [hm]; exact (show MthOK γ m_X1_temperLine _ from ⟨by decide +kernel, rfl, kok_X1_temperLine hm hk, fun pc _ E _ => hd_none rfl pc E⟩)))
 (tl_ok (by rw [hm]; exact (show MthOK γ m_X1_cond _ from ⟨by decide +kernel, rfl, kok_X1_cond hm hk, fun pc _ E _ => hd_none rfl pc E⟩))))))
 (tn_ok
 (tn_ok
 (tl_ok (by rw [hm]; exact (show MthOK γ m_X1_allOf _ from ⟨by decide +kernel, rfl, kok_X1_allOf hm hk, fun pc _ E _ => hd_none rfl pc E⟩)))
 (tl_ok (by rw [hm]; exact (show MthOK γ m_X1_atom _ from ⟨by decide +kernel, rfl, kok_X1_atom hm hk, fun pc _ E _ => hd_none rfl pc E⟩))))
 (tn_ok
 (tl_ok (by rw [hm]; exact (show MthOK γ m_X1_sum _ from ⟨by decide +kernel, rfl, kok_X1_sum hm hk, fun pc _ E _ => hd_none rfl pc E⟩)))
 (tn_ok
 (tl_ok (by rw [hm]; exact (show MthOK γ m_X1_onePart _ from ⟨by decide +kernel, rfl, kok_X1_onePart hm hk, fun pc _ E _ => hd_none rfl pc E⟩)))
 (tl_ok (by rw [hm]; exact (show MthOK γ m_X1_has _ from ⟨by decide +kernel, rfl, kok_X1_has hm hk, fun pc _ E _ => hd_none rfl pc E⟩))))))))
 (tn_ok
 (tn_ok
 (tn_ok
 (tn_ok
 (tl_ok (by rw [hm]; exact (show MthOK γ m_X1_person _ from ⟨by decide +kernel, rfl, kok_X1_person hm hk, fun pc _ E _ => hd_none rfl pc E⟩)))
 (tl_ok (by rw [hm]; exact (show MthOK γ m_X1_there _ from ⟨by decide +kernel, rfl, kok_X1_there hm hk, fun pc _ E _ => hd_none rfl pc E⟩))))
 (tn_ok
 (tl_ok (by rw [hm]; exact (show MthOK γ m_X1_give _ from ⟨by decide +kernel, rfl, kok_X1_give hm hk, fun pc _ E _ => hd_none rfl pc E⟩)))
 (tn_ok
 (tl_ok (by rw [hm]; exact (show MthOK γ m_X1_two _ from ⟨by decide +kernel, rfl, kok_X1_two hm hk, fun pc _ E _ => hd_none rfl pc E⟩)))
 (tl_ok (by rw [hm]; exact (show MthOK γ m_X1_demand _ from ⟨by decide +kernel, rfl, kok_X1_demand hm hk, fun pc _ E _ => hd_none rfl pc E⟩))))))
 (tn_ok
 (tn_ok
 (tl_ok (by rw [hm]; exact (show MthOK γ m_X1_pass _ from ⟨by decide +kernel, rfl, kok_X1_pass hm hk, fun pc _ E _ => hd_none rfl pc E⟩)))
 (tl_ok (by rw [hm]; exact (show MthOK γ m_X1_favourAt _ from ⟨by decide +kernel, rfl, kok_X1_favourAt hm hk, fun pc _ E _ => hd_none rfl pc E⟩))))
 (tn_ok
 (tl_ok (by rw [hm]; exact (show MthOK γ m_X1_call _ from ⟨by decide +kernel, rfl, kok_X1_call hm hk, fun pc _ E _ => hd_none rfl pc E⟩)))
 (tn_ok
 (tl_ok (by rw [hm]; exact (show MthOK γ m_X1_days _ from ⟨by decide +kernel, rfl, kok_X1_days hm hk, fun pc _ E _ => hd_none rfl pc E⟩)))
 (tl_ok (by rw [hm]; exact (show MthOK γ m_X1_look _ from ⟨by decide +kernel, rfl, kok_X1_look hm hk, fun pc _ E _ => hd_none rfl pc E⟩)))))))
 (tn_ok
 (tn_ok
 (tn_ok
 (tl_ok (by rw [hm]; exact (show MthOK γ m_X1_asked _ from ⟨by decide +kernel, rfl, kok_X1_asked hm hk, fun pc _ E _ => hd_none rfl pc E⟩)))
 (tl_ok (by rw [hm]; exact (show MthOK γ m_X1_hand _ from ⟨by decide +kernel, rfl, kok_X1_hand hm hk, fun pc _ E _ => hd_none rfl pc E⟩))))
 (tn_ok
 (tl_ok (by rw [hm]; exact (show MthOK γ m_X1_takes _ from ⟨by decide +kernel, rfl, kok_X1_takes hm hk, fun pc _ E _ => hd_none rfl pc E⟩)))
 (tn_ok
 (tl_ok (by rw [hm]; exact (show MthOK γ m_X1_rich _ from ⟨by decide +kernel, rfl, kok_X1_rich hm hk, fun pc _ E _ => hd_none rfl pc E⟩)))
 (tl_ok (by rw [hm]; exact (show MthOK γ m_X1_debt _ from ⟨by decide +kernel, rfl, kok_X1_debt hm hk, fun pc _ E _ => hd_none rfl pc E⟩))))))
 (tn_ok
 (tn_ok
 (tl_ok (by rw [hm]; exact (show MthOK γ m_X1_owes _ from ⟨by decide +kernel, rfl, kok_X1_owes hm hk, fun pc _ E _ => hd_none rfl pc E⟩)))
 (tl_ok (by rw [hm]; exact (show MthOK γ m_X1_pays _ from ⟨by decide +kernel, rfl, kok_X1_pays hm hk, fun pc _ E _ => hd_none rfl pc E⟩))))
 (tn_ok
 (tl_ok (by rw [hm]; exact (show MthOK γ m_X1_can _ from ⟨by decide +kernel, rfl, kok_X1_can hm hk, fun pc _ E _ => hd_none rfl pc E⟩)))
 (tn_ok
 (tl_ok (by rw [hm]; exact (show MthOK γ m_X1_needAt _ from ⟨by decide +kernel, rfl, kok_X1_needAt hm hk, fun pc _ E _ => hd_none rfl pc E⟩)))
 (tl_ok (by rw [hm]; exact (show MthOK γ m_X1_meet _ from ⟨by decide +kernel, rfl, kok_X1_meet hm hk, fun pc _ E _ => hd_none rfl pc E⟩))))))))))
 (tn_ok
 (tn_ok
 (tn_ok
 (tn_ok
 (tn_ok
 (tn_ok
 (tl_ok (by rw [hm]; exact (show MthOK γ m_X1_port _ from ⟨by decide +kernel, rfl, kok_X1_port hm hk, fun pc _ E _ => hd_none rfl pc E⟩)))
 (tl_ok (by rw [hm]; exact (show MthOK γ m_X1_most _ from ⟨by decide +kernel, rfl, kok_X1_most hm hk, fun pc _ E _ => hd_none rfl pc E⟩))))
 (tn_ok
 (tl_ok (by rw [hm]; exact (show MthOK γ m_X1_cut _ from ⟨by decide +kernel, rfl, kok_X1_cut hm hk, fun pc _ E _ => hd_none rfl pc E⟩)))
 (tl_ok (by rw [hm]; exact (show MthOK γ m_X1_chain _ from ⟨by decide +kernel, rfl, kok_X1_chain hm hk, fun pc _ E _ => hd_none rfl pc E⟩)))))
 (tn_ok
 (tn_ok
 (tl_ok (by rw [hm]; exact (show MthOK γ m_X1_steps _ from ⟨by decide +kernel, rfl, kok_X1_steps hm hk, fun pc _ E _ => hd_none rfl pc E⟩)))
 (tl_ok (by rw [hm]; exact (show MthOK γ m_X1_ring _ from ⟨by decide +kernel, rfl, kok_X1_ring hm hk, fun pc _ E _ => hd_none rfl pc E⟩))))
 (tn_ok
 (tl_ok (by rw [hm]; exact (show MthOK γ m_X1_clear _ from ⟨by decide +kernel, rfl, kok_X1_clear hm hk, fun pc _ E _ => hd_none rfl pc E⟩)))
 (tn_ok
 (tl_ok (by rw [hm]; exact (show MthOK γ m_X1_loss _ from ⟨by decide +kernel, rfl, kok_X1_loss hm hk, fun pc _ E _ => hd_none rfl pc E⟩)))
 (tl_ok (by rw [hm]; exact (show MthOK γ m_X1_ruined _ from ⟨by decide +kernel, rfl, kok_X1_ruined hm hk, fun pc _ E _ => hd_none rfl pc E⟩)))))))
 (tn_ok
 (tn_ok
 (tn_ok
 (tl_ok (by rw [hm]; exact (show MthOK γ m_X1_fits _ from ⟨by decide +kernel, rfl, kok_X1_fits hm hk, fun pc _ E _ => hd_none rfl pc E⟩)))
 (tl_ok (by rw [hm]; exact (show MthOK γ m_X1_play _ from ⟨by decide +kernel, rfl, kok_X1_play hm hk, fun pc _ E _ => hd_none rfl pc E⟩))))
 (tn_ok
 (tl_ok (by rw [hm]; exact (show MthOK γ m_X2_init _ from ⟨by decide +kernel, rfl, kok_X2_init hm hk, fun pc _ E _ => hd_none rfl pc E⟩)))
 (tn_ok
 (tl_ok (by rw [hm]; exact (show MthOK γ m_X2_unmet _ from ⟨by decide +kernel, rfl, kok_X2_unmet hm hk, fun pc _ E _ => hd_none rfl pc E⟩)))
 (tl_ok (by rw [hm]; exact (show MthOK γ m_X2_isMet _ from ⟨by decide +kernel, rfl, kok_X2_isMet hm hk, fun pc _ E _ => hd_none rfl pc E⟩))))))
 (tn_ok
 (tn_ok
 (tl_ok (by rw [hm]; exact (show MthOK γ m_X2_pays _ from ⟨by decide +kernel, rfl, kok_X2_pays hm hk, fun pc _ E _ => hd_none rfl pc E⟩)))
 (tl_ok (by rw [hm]; exact (show MthOK γ m_X2_canPass _ from ⟨by decide +kernel, rfl, kok_X2_canPass hm hk, fun pc _ E _ => hd_none rfl pc E⟩))))
 (tn_ok
 (tl_ok (by rw [hm]; exact (show MthOK γ m_X2_isGone _ from ⟨by decide +kernel, rfl, kok_X2_isGone hm hk, fun pc _ E _ => hd_none rfl pc E⟩)))
 (tn_ok
 (tl_ok (by rw [hm]; exact (show MthOK γ m_X2_takes _ from ⟨by decide +kernel, rfl, kok_X2_takes hm hk, fun pc _ E _ => hd_none rfl pc E⟩)))
 (tl_ok (by rw [hm]; exact (show MthOK γ m_X2_sees _ from ⟨by decide +kernel, rfl, kok_X2_sees hm hk, fun pc _ E _ => hd_none rfl pc E⟩))))))))
 (tn_ok
 (tn_ok
 (tn_ok
 (tn_ok
 (tl_ok (by rw [hm]; exact (show MthOK γ m_X2_rich _ from ⟨by decide +kernel, rfl, kok_X2_rich hm hk, fun pc _ E _ => hd_none rfl pc E⟩)))
 (tl_ok (by rw [hm]; exact (show MthOK γ m_X2_debt _ from ⟨by decide +kernel, rfl, kok_X2_debt hm hk, fun pc _ E _ => hd_none rfl pc E⟩))))
 (tn_ok
 (tl_ok (by rw [hm]; exact (show MthOK γ m_X2_worthThen _ from ⟨by decide +kernel, rfl, kok_X2_worthThen hm hk, fun pc _ E _ => hd_none rfl pc E⟩)))
 (tn_ok
 (tl_ok (by rw [hm]; exact (show MthOK γ m_X2_canGive _ from ⟨by decide +kernel, rfl, kok_X2_canGive hm hk, fun pc _ E _ => hd_none rfl pc E⟩)))
 (tl_ok (by rw [hm]; exact (show MthOK γ m_X2_copy _ from ⟨by decide +kernel, rfl, kok_X2_copy hm hk, fun pc _ E _ => hd_none rfl pc E⟩))))))
 (tn_ok
 (tn_ok
 (tl_ok (by rw [hm]; exact (show MthOK γ m_X2_alive _ from ⟨by decide +kernel, rfl, kok_X2_alive hm hk, fun pc _ E _ => hd_none rfl pc E⟩)))
 (tl_ok (by rw [hm]; exact (show MthOK γ m_X2_pairs _ from ⟨by decide +kernel, rfl, kok_X2_pairs hm hk, fun pc _ E _ => hd_none rfl pc E⟩))))
 (tn_ok
 (tl_ok (by rw [hm]; exact (show MthOK γ m_X2_gives _ from ⟨by decide +kernel, rfl, kok_X2_gives hm hk, fun pc _ E _ => hd_none rfl pc E⟩)))
 (tn_ok
 (tl_ok (by rw [hm]; exact (show MthOK γ m_X2_passes _ from ⟨by decide +kernel, rfl, kok_X2_passes hm hk, fun pc _ E _ => hd_none rfl pc E⟩)))
 (tl_ok (by rw [hm]; exact (show MthOK γ m_X2_days _ from ⟨by decide +kernel, rfl, kok_X2_days hm hk, fun pc _ E _ => hd_none rfl pc E⟩)))))))
 (tn_ok
 (tn_ok
 (tn_ok
 (tl_ok (by rw [hm]; exact (show MthOK γ m_X2_owes _ from ⟨by decide +kernel, rfl, kok_X2_owes hm hk, fun pc _ E _ => hd_none rfl pc E⟩)))
 (tl_ok (by rw [hm]; exact (show MthOK γ m_X2_meets _ from ⟨by decide +kernel, rfl, kok_X2_meets hm hk, fun pc _ E _ => hd_none rfl pc E⟩))))
 (tn_ok
 (tl_ok (by rw [hm]; exact (show MthOK γ m_X2_port _ from ⟨by decide +kernel, rfl, kok_X2_port hm hk, fun pc _ E _ => hd_none rfl pc E⟩)))
 (tn_ok
 (tl_ok (by rw [hm]; exact (show MthOK γ m_J0_init _ from ⟨by decide +kernel, rfl, kok_J0_init hm hk, fun pc _ E _ => hd_none rfl pc E⟩)))
 (tl_ok (by rw [hm]; exact (show MthOK γ m_J1_init _ from ⟨by decide +kernel, rfl, kok_J1_init hm hk, fun pc _ E _ => hd_none rfl pc E⟩))))))
 (tn_ok
 (tn_ok
 (tl_ok (by rw [hm]; exact (show MthOK γ m_J2_init _ from ⟨by decide +kernel, rfl, kok_J2_init hm hk, fun pc _ E _ => hd_none rfl pc E⟩)))
 (tl_ok (by rw [hm]; exact (show MthOK γ m_J2_size _ from ⟨by decide +kernel, rfl, kok_J2_size hm hk, fun pc _ E _ => hd_none rfl pc E⟩))))
 (tn_ok
 (tl_ok (by rw [hm]; exact (show MthOK γ m_J2_get _ from ⟨by decide +kernel, rfl, kok_J2_get hm hk, fun pc _ E _ => hd_none rfl pc E⟩)))
 (tn_ok
 (tl_ok (by rw [hm]; exact (show MthOK γ m_J2_elementData _ from ⟨by decide +kernel, rfl, kok_J2_elementData hm hk, fun pc _ E _ => hd_none rfl pc E⟩)))
 (tl_ok (by rw [hm]; exact (show MthOK γ m_J2_add _ from ⟨by decide +kernel, rfl, kok_J2_add hm hk, fun pc _ E _ => hd_none rfl pc E⟩)))))))))
 (tn_ok
 (tn_ok
 (tn_ok
 (tn_ok
 (tn_ok
 (tl_ok (by rw [hm]; exact (show MthOK γ m_J2_add_2 _ from ⟨by decide +kernel, rfl, kok_J2_add_2 hm hk, fun pc _ E _ => hd_none rfl pc E⟩)))
 (tl_ok (by rw [hm]; exact (show MthOK γ m_J2_grow _ from ⟨by decide +kernel, rfl, kok_J2_grow hm hk, fun pc _ E _ => hd_none rfl pc E⟩))))
 (tn_ok
 (tl_ok (by rw [hm]; exact (show MthOK γ m_J2_grow_2 _ from ⟨by decide +kernel, rfl, kok_J2_grow_2 hm hk, fun pc _ E _ => hd_none rfl pc E⟩)))
 (tl_ok (by rw [hm]; exact (show MthOK γ m_J2_addAll _ from ⟨by decide +kernel, rfl, kok_J2_addAll hm hk, fun pc _ E _ => hd_none rfl pc E⟩)))))
 (tn_ok
 (tn_ok
 (tl_ok (by rw [hm]; exact (show MthOK γ m_J2_toArray _ from ⟨by decide +kernel, rfl, kok_J2_toArray hm hk, fun pc _ E _ => hd_none rfl pc E⟩)))
 (tl_ok (by rw [hm]; exact (show MthOK γ m_X3_init _ from ⟨by decide +kernel, rfl, kok_X3_init hm hk, fun pc _ E _ => hd_none rfl pc E⟩))))
 (tn_ok
 (tl_ok (by rw [hm]; exact (show MthOK γ m_X3_is _ from ⟨by decide +kernel, rfl, kok_X3_is hm hk, fun pc _ E _ => hd_none rfl pc E⟩)))
 (tn_ok
 (tl_ok (by rw [hm]; exact (show MthOK γ m_X3_of _ from ⟨by decide +kernel, rfl, kok_X3_of hm hk, fun pc _ E _ => hd_none rfl pc E⟩)))
 (tl_ok (by rw [hm]; exact (show MthOK γ m_X4_init _ from ⟨by decide +kernel, rfl, kok_X4_init hm hk, fun pc _ E _ => hd_none rfl pc E⟩)))))))
 (tn_ok
 (tn_ok
 (tn_ok
 (tl_ok (by rw [hm]; exact (show MthOK γ m_X4_add _ from ⟨by decide +kernel, rfl, kok_X4_add hm hk, fun pc _ E _ => hd_none rfl pc E⟩)))
 (tl_ok (by rw [hm]; exact (show MthOK γ m_X4_cut _ from ⟨by decide +kernel, rfl, kok_X4_cut hm hk, fun pc _ E _ => hd_none rfl pc E⟩))))
 (tn_ok
 (tl_ok (by rw [hm]; exact (show MthOK γ m_X4_begins _ from ⟨by decide +kernel, rfl, kok_X4_begins hm hk, fun pc _ E _ => hd_none rfl pc E⟩)))
 (tn_ok
 (tl_ok (by rw [hm]; exact (show MthOK γ m_X4_isOver _ from ⟨by decide +kernel, rfl, kok_X4_isOver hm hk, fun pc _ E _ => hd_none rfl pc E⟩)))
 (tl_ok (by rw [hm]; exact (show MthOK γ m_X4_blanks _ from ⟨by decide +kernel, rfl, kok_X4_blanks hm hk, fun pc _ E _ => hd_none rfl pc E⟩))))))
 (tn_ok
 (tn_ok
 (tl_ok (by rw [hm]; exact (show MthOK γ m_X4_byteAt _ from ⟨by decide +kernel, rfl, kok_X4_byteAt hm hk, fun pc _ E _ => hd_none rfl pc E⟩)))
 (tl_ok (by rw [hm]; exact (show MthOK γ m_X4_word _ from ⟨by decide +kernel, rfl, kok_X4_word hm hk, fun pc _ E _ => hd_none rfl pc E⟩))))
 (tn_ok
 (tl_ok (by rw [hm]; exact (show MthOK γ m_X4_wrong _ from ⟨by decide +kernel, rfl, kok_X4_wrong hm hk, fun pc _ E _ => hd_none rfl pc E⟩)))
 (tn_ok
 (tl_ok (by rw [hm]; exact (show MthOK γ m_X4_number _ from ⟨by decide +kernel, rfl, kok_X4_number hm hk, fun pc _ E _ => hd_none rfl pc E⟩)))
 (tl_ok (by rw [hm]; exact (show MthOK γ m_X4_passes _ from ⟨by decide +kernel, rfl, kok_X4_passes hm hk, fun pc _ E _ => hd_none rfl pc E⟩))))))))
 (tn_ok
 (tn_ok
 (tn_ok
 (tn_ok
 (tl_ok (by rw [hm]; exact (show MthOK γ m_X4_sign _ from ⟨by decide +kernel, rfl, kok_X4_sign hm hk, fun pc _ E _ => hd_none rfl pc E⟩)))
 (tl_ok (by rw [hm]; exact (show MthOK γ m_X4_goesDeeper _ from ⟨by decide +kernel, rfl, kok_X4_goesDeeper hm hk, fun pc _ E _ => hd_none rfl pc E⟩))))
 (tn_ok
 (tl_ok (by rw [hm]; exact (show MthOK γ m_X4_comesUp _ from ⟨by decide +kernel, rfl, kok_X4_comesUp hm hk, fun pc _ E _ => hd_none rfl pc E⟩)))
 (tn_ok
 (tl_ok (by rw [hm]; exact (show MthOK γ m_X4_isFigure _ from ⟨by decide +kernel, rfl, kok_X4_isFigure hm hk, fun pc _ E _ => hd_none rfl pc E⟩)))
 (tl_ok (by rw [hm]; exact (show MthOK γ m_X5_init _ from ⟨by decide +kernel, rfl, kok_X5_init hm hk, fun pc _ E _ => hd_none rfl pc E⟩))))))
 (tn_ok
 (tn_ok
 (tl_ok (by rw [hm]; exact (show MthOK γ m_X5_begins _ from ⟨by decide +kernel, rfl, kok_X5_begins hm hk, fun pc _ E _ => hd_none rfl pc E⟩)))
 (tl_ok (by rw [hm]; exact (show MthOK γ m_X5_most _ from ⟨by decide +kernel, rfl, kok_X5_most hm hk, fun pc _ E _ => hd_none rfl pc E⟩))))
 (tn_ok
 (tl_ok (by rw [hm]; exact (show MthOK γ m_X5_reached _ from ⟨by decide +kernel, rfl, kok_X5_reached hm hk, fun pc _ E _ => hd_none rfl pc E⟩)))
 (tn_ok
 (tl_ok (by rw [hm]; exact (show MthOK γ m_X6_init _ from ⟨by decide +kernel, rfl, kok_X6_init hm hk, fun pc _ E _ => hd_none rfl pc E⟩)))
 (tl_ok (by rw [hm]; exact (show MthOK γ m_X6_goes _ from ⟨by decide +kernel, rfl, kok_X6_goes hm hk, fun pc _ E _ => hd_none rfl pc E⟩)))))))
 (tn_ok
 (tn_ok
 (tn_ok
 (tl_ok (by rw [hm]; exact (show MthOK γ m_X6_tries _ from ⟨by decide +kernel, rfl, kok_X6_tries hm hk, fun pc _ E _ => hd_none rfl pc E⟩)))
 (tl_ok (by rw [hm]; exact (show MthOK γ m_X6_least _ from ⟨by decide +kernel, rfl, kok_X6_least hm hk, fun pc _ E _ => hd_none rfl pc E⟩))))
 (tn_ok
 (tl_ok (by rw [hm]; exact (show MthOK γ m_X6_takes _ from ⟨by decide +kernel, rfl, kok_X6_takes hm hk, fun pc _ E _ => hd_none rfl pc E⟩)))
 (tn_ok
 (tl_ok (by rw [hm]; exact (show MthOK γ m_X7_init _ from ⟨by decide +kernel, rfl, kok_X7_init hm hk, fun pc _ E _ => hd_none rfl pc E⟩)))
 (tl_ok (by rw [hm]; exact (show MthOK γ m_X7_thrown _ from ⟨by decide +kernel, rfl, kok_X7_thrown hm hk, fun pc _ E _ => hd_none rfl pc E⟩))))))
 (tn_ok
 (tn_ok
 (tl_ok (by rw [hm]; exact (show MthOK γ m_X7_feed _ from ⟨by decide +kernel, rfl, kok_X7_feed hm hk, fun pc _ E _ => hd_none rfl pc E⟩)))
 (tl_ok (by rw [hm]; exact (show MthOK γ m_X7_end _ from ⟨by decide +kernel, rfl, kok_X7_end hm hk, fun pc _ E _ => hd_none rfl pc E⟩))))
 (tn_ok
 (tl_ok (by rw [hm]; exact (show MthOK γ m_X7_isIn _ from ⟨by decide +kernel, rfl, kok_X7_isIn hm hk, fun pc _ E _ => hd_none rfl pc E⟩)))
 (tn_ok
 (tl_ok (by rw [hm]; exact (show MthOK γ m_X7_town _ from ⟨by decide +kernel, rfl, kok_X7_town hm hk, fun pc _ E _ => hd_none rfl pc E⟩)))
 (tl_ok (by rw [hm]; exact (show MthOK γ m_X7_read _ from ⟨by decide +kernel, rfl, kok_X7_read hm hk, fun pc _ E _ => hd_none rfl pc E⟩)))))))))))
 (tn_ok
 (tn_ok
 (tn_ok
 (tn_ok
 (tn_ok
 (tn_ok
 (tn_ok
 (tl_ok (by rw [hm]; exact (show MthOK γ m_X7_skip _ from ⟨by decide +kernel, rfl, kok_X7_skip hm hk, fun pc _ E _ => hd_none rfl pc E⟩)))
 (tl_ok (by rw [hm]; exact (show MthOK γ m_X7_letter _ from ⟨by decide +kernel, rfl, kok_X7_letter hm hk, fun pc _ E _ => hd_none rfl pc E⟩))))
 (tn_ok
 (tl_ok (by rw [hm]; exact (show MthOK γ m_X7_wrong _ from ⟨by decide +kernel, rfl, kok_X7_wrong hm hk, fun pc _ E _ => hd_none rfl pc E⟩)))
 (tl_ok (by rw [hm]; exact (show MthOK γ m_X7_temperLine _ from ⟨by decide +kernel, rfl, kok_X7_temperLine hm hk, fun pc _ E _ => hd_none rfl pc E⟩)))))
 (tn_ok
 (tn_ok
 (tl_ok (by rw [hm]; exact (show MthOK γ m_X7_has0 _ from ⟨by decide +kernel, rfl, kok_X7_has0 hm hk, fun pc _ E _ => hd_none rfl pc E⟩)))
 (tl_ok (by rw [hm]; exact (show MthOK γ m_X7_some _ from ⟨by decide +kernel, rfl, kok_X7_some hm hk, fun pc _ E _ => hd_none rfl pc E⟩))))
 (tn_ok
 (tl_ok (by rw [hm]; exact (show MthOK γ m_X7_every _ from ⟨by decide +kernel, rfl, kok_X7_every hm hk, fun pc _ E _ => hd_none rfl pc E⟩)))
 (tn_ok
 (tl_ok (by rw [hm]; exact (show MthOK γ m_X7_atom _ from ⟨by decide +kernel, rfl, kok_X7_atom hm hk, fun pc _ E _ => hd_none rfl pc E⟩)))
 (tl_ok (by rw [hm]; exact (show MthOK γ m_X7_isSign _ from ⟨by decide +kernel, rfl, kok_X7_isSign hm hk, fun pc _ E _ => hd_none rfl pc E⟩)))))))
 (tn_ok
 (tn_ok
 (tn_ok
 (tl_ok (by rw [hm]; exact (show MthOK γ m_X7_plain _ from ⟨by decide +kernel, rfl, kok_X7_plain hm hk, fun pc _ E _ => hd_none rfl pc E⟩)))
 (tl_ok (by rw [hm]; exact (show MthOK γ m_X7_sum _ from ⟨by decide +kernel, rfl, kok_X7_sum hm hk, fun pc _ E _ => hd_none rfl pc E⟩))))
 (tn_ok
 (tl_ok (by rw [hm]; exact (show MthOK γ m_X7_part _ from ⟨by decide +kernel, rfl, kok_X7_part hm hk, fun pc _ E _ => hd_none rfl pc E⟩)))
 (tn_ok
 (tl_ok (by rw [hm]; exact (show MthOK γ m_X7_figures _ from ⟨by decide +kernel, rfl, kok_X7_figures hm hk, fun pc _ E _ => hd_none rfl pc E⟩)))
 (tl_ok (by rw [hm]; exact (show MthOK γ m_X7_townLine _ from ⟨by decide +kernel, rfl, kok_X7_townLine hm hk, fun pc _ E _ => hd_none rfl pc E⟩))))))
 (tn_ok
 (tn_ok
 (tl_ok (by rw [hm]; exact (show MthOK γ m_X7_person _ from ⟨by decide +kernel, rfl, kok_X7_person hm hk, fun pc _ E _ => hd_none rfl pc E⟩)))
 (tl_ok (by rw [hm]; exact (show MthOK γ m_X7_must _ from ⟨by decide +kernel, rfl, kok_X7_must hm hk, fun pc _ E _ => hd_none rfl pc E⟩))))
 (tn_ok
 (tl_ok (by rw [hm]; exact (show MthOK γ m_X7_gives _ from ⟨by decide +kernel, rfl, kok_X7_gives hm hk, fun pc _ E _ => hd_none rfl pc E⟩)))
 (tn_ok
 (tl_ok (by rw [hm]; exact (show MthOK γ m_X7_canGive _ from ⟨by decide +kernel, rfl, kok_X7_canGive hm hk, fun pc _ E _ => hd_none rfl pc E⟩)))
 (tl_ok (by rw [hm]; exact (show MthOK γ m_X7_debtOf _ from ⟨by decide +kernel, rfl, kok_X7_debtOf hm hk, fun pc _ E _ => hd_none rfl pc E⟩))))))))
 (tn_ok
 (tn_ok
 (tn_ok
 (tn_ok
 (tl_ok (by rw [hm]; exact (show MthOK γ m_X7_of _ from ⟨by decide +kernel, rfl, kok_X7_of hm hk, fun pc _ E _ => hd_none rfl pc E⟩)))
 (tl_ok (by rw [hm]; exact (show MthOK γ m_X7_wouldTake _ from ⟨by decide +kernel, rfl, kok_X7_wouldTake hm hk, fun pc _ E _ => hd_none rfl pc E⟩))))
 (tn_ok
 (tl_ok (by rw [hm]; exact (show MthOK γ m_X7_worthOf _ from ⟨by decide +kernel, rfl, kok_X7_worthOf hm hk, fun pc _ E _ => hd_none rfl pc E⟩)))
 (tn_ok
 (tl_ok (by rw [hm]; exact (show MthOK γ m_X7_richOf _ from ⟨by decide +kernel, rfl, kok_X7_richOf hm hk, fun pc _ E _ => hd_none rfl pc E⟩)))
 (tl_ok (by rw [hm]; exact (show MthOK γ m_X7_isNearTo _ from ⟨by decide +kernel, rfl, kok_X7_isNearTo hm hk, fun pc _ E _ => hd_none rfl pc E⟩))))))
 (tn_ok
 (tn_ok
 (tl_ok (by rw [hm]; exact (show MthOK γ m_X7_sets _ from ⟨by decide +kernel, rfl, kok_X7_sets hm hk, fun pc _ E _ => hd_none rfl pc E⟩)))
 (tl_ok (by rw [hm]; exact (show MthOK γ m_X7_passes _ from ⟨by decide +kernel, rfl, kok_X7_passes hm hk, fun pc _ E _ => hd_none rfl pc E⟩))))
 (tn_ok
 (tl_ok (by rw [hm]; exact (show MthOK γ m_X7_canPass _ from ⟨by decide +kernel, rfl, kok_X7_canPass hm hk, fun pc _ E _ => hd_none rfl pc E⟩)))
 (tn_ok
 (tl_ok (by rw [hm]; exact (show MthOK γ m_X7_wouldPass _ from ⟨by decide +kernel, rfl, kok_X7_wouldPass hm hk, fun pc _ E _ => hd_none rfl pc E⟩)))
 (tl_ok (by rw [hm]; exact (show MthOK γ m_X7_goOn _ from ⟨by decide +kernel, rfl, kok_X7_goOn hm hk, fun pc _ E _ => hd_none rfl pc E⟩)))))))
 (tn_ok
 (tn_ok
 (tn_ok
 (tl_ok (by rw [hm]; exact (show MthOK γ m_X7_temper _ from ⟨by decide +kernel, rfl, kok_X7_temper hm hk, fun pc _ E _ => hd_none rfl pc E⟩)))
 (tl_ok (by rw [hm]; exact (show MthOK γ m_X7_fault _ from ⟨by decide +kernel, rfl, kok_X7_fault hm hk, fun pc _ E _ => hd_none rfl pc E⟩))))
 (tn_ok
 (tl_ok (by rw [hm]; exact (show MthOK γ m_X7_has _ from ⟨by decide +kernel, rfl, kok_X7_has hm hk, fun pc _ E _ => hd_none rfl pc E⟩)))
 (tn_ok
 (tl_ok (by rw [hm]; exact (show MthOK γ m_X7_isPerson _ from ⟨by decide +kernel, rfl, kok_X7_isPerson hm hk, fun pc _ E _ => hd_none rfl pc E⟩)))
 (tl_ok (by rw [hm]; exact (show MthOK γ m_X7_give _ from ⟨by decide +kernel, rfl, kok_X7_give hm hk, fun pc _ E _ => hd_none rfl pc E⟩))))))
 (tn_ok
 (tn_ok
 (tl_ok (by rw [hm]; exact (show MthOK γ m_X7_pass _ from ⟨by decide +kernel, rfl, kok_X7_pass hm hk, fun pc _ E _ => hd_none rfl pc E⟩)))
 (tl_ok (by rw [hm]; exact (show MthOK γ m_X7_isFavour _ from ⟨by decide +kernel, rfl, kok_X7_isFavour hm hk, fun pc _ E _ => hd_none rfl pc E⟩))))
 (tn_ok
 (tl_ok (by rw [hm]; exact (show MthOK γ m_X7_call _ from ⟨by decide +kernel, rfl, kok_X7_call hm hk, fun pc _ E _ => hd_none rfl pc E⟩)))
 (tn_ok
 (tl_ok (by rw [hm]; exact (show MthOK γ m_X7_days _ from ⟨by decide +kernel, rfl, kok_X7_days hm hk, fun pc _ E _ => hd_none rfl pc E⟩)))
 (tl_ok (by rw [hm]; exact (show MthOK γ m_X7_look _ from ⟨by decide +kernel, rfl, kok_X7_look hm hk, fun pc _ E _ => hd_none rfl pc E⟩)))))))))
 (tn_ok
 (tn_ok
 (tn_ok
 (tn_ok
 (tn_ok
 (tl_ok (by rw [hm]; exact (show MthOK γ m_X7_hand _ from ⟨by decide +kernel, rfl, kok_X7_hand hm hk, fun pc _ E _ => hd_none rfl pc E⟩)))
 (tl_ok (by rw [hm]; exact (show MthOK γ m_X7_takes _ from ⟨by decide +kernel, rfl, kok_X7_takes hm hk, fun pc _ E _ => hd_none rfl pc E⟩))))
 (tn_ok
 (tl_ok (by rw [hm]; exact (show MthOK γ m_X7_rich _ from ⟨by decide +kernel, rfl, kok_X7_rich hm hk, fun pc _ E _ => hd_none rfl pc E⟩)))
 (tl_ok (by rw [hm]; exact (show MthOK γ m_X7_debt _ from ⟨by decide +kernel, rfl, kok_X7_debt hm hk, fun pc _ E _ => hd_none rfl pc E⟩)))))
 (tn_ok
 (tn_ok
 (tl_ok (by rw [hm]; exact (show MthOK γ m_X7_owes _ from ⟨by decide +kernel, rfl, kok_X7_owes hm hk, fun pc _ E _ => hd_none rfl pc E⟩)))
 (tl_ok (by rw [hm]; exact (show MthOK γ m_X7_owesOf _ from ⟨by decide +kernel, rfl, kok_X7_owesOf hm hk, fun pc _ E _ => hd_none rfl pc E⟩))))
 (tn_ok
 (tl_ok (by rw [hm]; exact (show MthOK γ m_X7_pays _ from ⟨by decide +kernel, rfl, kok_X7_pays hm hk, fun pc _ E _ => hd_none rfl pc E⟩)))
 (tn_ok
 (tl_ok (by rw [hm]; exact (show MthOK γ m_X7_paysBy _ from ⟨by decide +kernel, rfl, kok_X7_paysBy hm hk, fun pc _ E _ => hd_none rfl pc E⟩)))
 (tl_ok (by rw [hm]; exact (show MthOK γ m_X7_goes _ from ⟨by decide +kernel, rfl, kok_X7_goes hm hk, fun pc _ E _ => hd_none rfl pc E⟩)))))))
 (tn_ok
 (tn_ok
 (tn_ok
 (tl_ok (by rw [hm]; exact (show MthOK γ m_X7_can _ from ⟨by decide +kernel, rfl, kok_X7_can hm hk, fun pc _ E _ => hd_none rfl pc E⟩)))
 (tl_ok (by rw [hm]; exact (show MthOK γ m_X7_isNeed _ from ⟨by decide +kernel, rfl, kok_X7_isNeed hm hk, fun pc _ E _ => hd_none rfl pc E⟩))))
 (tn_ok
 (tl_ok (by rw [hm]; exact (show MthOK γ m_X7_canNeed _ from ⟨by decide +kernel, rfl, kok_X7_canNeed hm hk, fun pc _ E _ => hd_none rfl pc E⟩)))
 (tn_ok
 (tl_ok (by rw [hm]; exact (show MthOK γ m_X7_canMeet _ from ⟨by decide +kernel, rfl, kok_X7_canMeet hm hk, fun pc _ E _ => hd_none rfl pc E⟩)))
 (tl_ok (by rw [hm]; exact (show MthOK γ m_X7_meet _ from ⟨by decide +kernel, rfl, kok_X7_meet hm hk, fun pc _ E _ => hd_none rfl pc E⟩))))))
 (tn_ok
 (tn_ok
 (tl_ok (by rw [hm]; exact (show MthOK γ m_X7_meets _ from ⟨by decide +kernel, rfl, kok_X7_meets hm hk, fun pc _ E _ => hd_none rfl pc E⟩)))
 (tl_ok (by rw [hm]; exact (show MthOK γ m_X7_enough _ from ⟨by decide +kernel, rfl, kok_X7_enough hm hk, fun pc _ E _ => hd_none rfl pc E⟩))))
 (tn_ok
 (tl_ok (by rw [hm]; exact (show MthOK γ m_X7_witnessOf _ from ⟨by decide +kernel, rfl, kok_X7_witnessOf hm hk, fun pc _ E _ => hd_none rfl pc E⟩)))
 (tn_ok
 (tl_ok (by rw [hm]; exact (show MthOK γ m_X7_lets _ from ⟨by decide +kernel, rfl, kok_X7_lets hm hk, fun pc _ E _ => hd_none rfl pc E⟩)))
 (tl_ok (by rw [hm]; exact (show MthOK γ m_X7_witness _ from ⟨by decide +kernel, rfl, kok_X7_witness hm hk, fun pc _ E _ => hd_none rfl pc E⟩))))))))
 (tn_ok
 (tn_ok
 (tn_ok
 (tn_ok
 (tl_ok (by rw [hm]; exact (show MthOK γ m_X7_fewest _ from ⟨by decide +kernel, rfl, kok_X7_fewest hm hk, fun pc _ E _ => hd_none rfl pc E⟩)))
 (tl_ok (by rw [hm]; exact (show MthOK γ m_X7_bits _ from ⟨by decide +kernel, rfl, kok_X7_bits hm hk, fun pc _ E _ => hd_none rfl pc E⟩))))
 (tn_ok
 (tl_ok (by rw [hm]; exact (show MthOK γ m_X7_forgive _ from ⟨by decide +kernel, rfl, kok_X7_forgive hm hk, fun pc _ E _ => hd_none rfl pc E⟩)))
 (tn_ok
 (tl_ok (by rw [hm]; exact (show MthOK γ m_X7_port _ from ⟨by decide +kernel, rfl, kok_X7_port hm hk, fun pc _ E _ => hd_none rfl pc E⟩)))
 (tl_ok (by rw [hm]; exact (show MthOK γ m_X7_twoOf _ from ⟨by decide +kernel, rfl, kok_X7_twoOf hm hk, fun pc _ E _ => hd_none rfl pc E⟩))))))
 (tn_ok
 (tn_ok
 (tl_ok (by rw [hm]; exact (show MthOK γ m_X7_portOf _ from ⟨by decide +kernel, rfl, kok_X7_portOf hm hk, fun pc _ E _ => hd_none rfl pc E⟩)))
 (tl_ok (by rw [hm]; exact (show MthOK γ m_X7_most _ from ⟨by decide +kernel, rfl, kok_X7_most hm hk, fun pc _ E _ => hd_none rfl pc E⟩))))
 (tn_ok
 (tl_ok (by rw [hm]; exact (show MthOK γ m_X7_flows _ from ⟨by decide +kernel, rfl, kok_X7_flows hm hk, fun pc _ E _ => hd_none rfl pc E⟩)))
 (tn_ok
 (tl_ok (by rw [hm]; exact (show MthOK γ m_X7_allPorts _ from ⟨by decide +kernel, rfl, kok_X7_allPorts hm hk, fun pc _ E _ => hd_none rfl pc E⟩)))
 (tl_ok (by rw [hm]; exact (show MthOK γ m_X7_reaches _ from ⟨by decide +kernel, rfl, kok_X7_reaches hm hk, fun pc _ E _ => hd_none rfl pc E⟩)))))))
 (tn_ok
 (tn_ok
 (tn_ok
 (tl_ok (by rw [hm]; exact (show MthOK γ m_X7_cut _ from ⟨by decide +kernel, rfl, kok_X7_cut hm hk, fun pc _ E _ => hd_none rfl pc E⟩)))
 (tl_ok (by rw [hm]; exact (show MthOK γ m_X7_chain _ from ⟨by decide +kernel, rfl, kok_X7_chain hm hk, fun pc _ E _ => hd_none rfl pc E⟩))))
 (tn_ok
 (tl_ok (by rw [hm]; exact (show MthOK γ m_X7_ring _ from ⟨by decide +kernel, rfl, kok_X7_ring hm hk, fun pc _ E _ => hd_none rfl pc E⟩)))
 (tn_ok
 (tl_ok (by rw [hm]; exact (show MthOK γ m_X7_clear _ from ⟨by decide +kernel, rfl, kok_X7_clear hm hk, fun pc _ E _ => hd_none rfl pc E⟩)))
 (tl_ok (by rw [hm]; exact (show MthOK γ m_X7_orders _ from ⟨by decide +kernel, rfl, kok_X7_orders hm hk, fun pc _ E _ => hd_none rfl pc E⟩))))))
 (tn_ok
 (tn_ok
 (tl_ok (by rw [hm]; exact (show MthOK γ m_X7_ringOf _ from ⟨by decide +kernel, rfl, kok_X7_ringOf hm hk, fun pc _ E _ => hd_none rfl pc E⟩)))
 (tl_ok (by rw [hm]; exact (show MthOK γ m_X7_putsBack _ from ⟨by decide +kernel, rfl, kok_X7_putsBack hm hk, fun pc _ E _ => hd_none rfl pc E⟩))))
 (tn_ok
 (tl_ok (by rw [hm]; exact (show MthOK γ m_X7_loss _ from ⟨by decide +kernel, rfl, kok_X7_loss hm hk, fun pc _ E _ => hd_none rfl pc E⟩)))
 (tn_ok
 (tl_ok (by rw [hm]; exact (show MthOK γ m_X7_lossOf _ from ⟨by decide +kernel, rfl, kok_X7_lossOf hm hk, fun pc _ E _ => hd_none rfl pc E⟩)))
 (tl_ok (by rw [hm]; exact (show MthOK γ m_X7_ruined _ from ⟨by decide +kernel, rfl, kok_X7_ruined hm hk, fun pc _ E _ => hd_none rfl pc E⟩))))))))))
 (tn_ok
 (tn_ok
 (tn_ok
 (tn_ok
 (tn_ok
 (tn_ok
 (tl_ok (by rw [hm]; exact (show MthOK γ m_X7_fits _ from ⟨by decide +kernel, rfl, kok_X7_fits hm hk, fun pc _ E _ => hd_none rfl pc E⟩)))
 (tl_ok (by rw [hm]; exact (show MthOK γ m_X7_play _ from ⟨by decide +kernel, rfl, kok_X7_play hm hk, fun pc _ E _ => hd_none rfl pc E⟩))))
 (tn_ok
 (tl_ok (by rw [hm]; exact (show MthOK γ m_X7_draws _ from ⟨by decide +kernel, rfl, kok_X7_draws hm hk, fun pc _ E _ => hd_none rfl pc E⟩)))
 (tl_ok (by rw [hm]; exact (show MthOK γ m_X7_image _ from ⟨by decide +kernel, rfl, kok_X7_image hm hk, fun pc _ E _ => hd_none rfl pc E⟩)))))
 (tn_ok
 (tn_ok
 (tl_ok (by rw [hm]; exact (show MthOK γ m_X7_back _ from ⟨by decide +kernel, rfl, kok_X7_back hm hk, fun pc _ E _ => hd_none rfl pc E⟩)))
 (tl_ok (by rw [hm]; exact (show MthOK γ m_X7_count _ from ⟨by decide +kernel, rfl, kok_X7_count hm hk, fun pc _ E _ => hd_none rfl pc E⟩))))
 (tn_ok
 (tl_ok (by rw [hm]; exact (show MthOK γ m_J3_checkIndex _ from ⟨by decide +kernel, rfl, kok_J3_checkIndex hm hk, fun pc _ E _ => hd_none rfl pc E⟩)))
 (tn_ok
 (tl_ok (by rw [hm]; exact (show MthOK γ m_J4_checkIndex _ from ⟨by decide +kernel, rfl, kok_J4_checkIndex hm hk, fun pc _ E _ => hd_none rfl pc E⟩)))
 (tl_ok (by rw [hm]; exact (show MthOK γ m_X8_end _ from ⟨by decide +kernel, rfl, kok_X8_end hm hk, fun pc _ E _ => hd_none rfl pc E⟩)))))))
 (tn_ok
 (tn_ok
 (tn_ok
 (tl_ok (by rw [hm]; exact (show MthOK γ m_X8_worthAt _ from ⟨by decide +kernel, rfl, kok_X8_worthAt hm hk, fun pc _ E _ => hd_none rfl pc E⟩)))
 (tl_ok (by rw [hm]; exact (show MthOK γ m_X8_wasHeldBy _ from ⟨by decide +kernel, rfl, kok_X8_wasHeldBy hm hk, fun pc _ E _ => hd_none rfl pc E⟩))))
 (tn_ok
 (tl_ok (by rw [hm]; exact (show MthOK γ m_X8_init _ from ⟨by decide +kernel, rfl, kok_X8_init hm hk, fun pc _ E _ => hd_none rfl pc E⟩)))
 (tn_ok
 (tl_ok (by rw [hm]; exact (show MthOK γ m_X8_takes _ from ⟨by decide +kernel, rfl, kok_X8_takes hm hk, fun pc _ E _ => hd_none rfl pc E⟩)))
 (tl_ok (by rw [hm]; exact (show MthOK γ m_X8_copy _ from ⟨by decide +kernel, rfl, kok_X8_copy hm hk, fun pc _ E _ => hd_none rfl pc E⟩))))))
 (tn_ok
 (tn_ok
 (tl_ok (by rw [hm]; exact (show MthOK γ m_X8_goes _ from ⟨by decide +kernel, rfl, kok_X8_goes hm hk, fun pc _ E _ => hd_none rfl pc E⟩)))
 (tl_ok (by rw [hm]; exact (show MthOK γ m_X9_end _ from ⟨by decide +kernel, rfl, kok_X9_end hm hk, fun pc _ E _ => hd_none rfl pc E⟩))))
 (tn_ok
 (tl_ok (by rw [hm]; exact (show MthOK γ m_X9_copy _ from ⟨by decide +kernel, rfl, kok_X9_copy hm hk, fun pc _ E _ => hd_none rfl pc E⟩)))
 (tn_ok
 (tl_ok (by rw [hm]; exact (show MthOK γ m_X9_init _ from ⟨by decide +kernel, rfl, kok_X9_init hm hk, fun pc _ E _ => hd_none rfl pc E⟩)))
 (tl_ok (by rw [hm]; exact (show MthOK γ m_J5_newLength _ from ⟨by decide +kernel, rfl, kok_J5_newLength hm hk, fun pc _ E _ => hd_none rfl pc E⟩))))))))
 (tn_ok
 (tn_ok
 (tn_ok
 (tn_ok
 (tl_ok (by rw [hm]; exact (show MthOK γ m_J5_vectorizedHashCode _ from ⟨by decide +kernel, rfl, kok_J5_vectorizedHashCode hm hk, fun pc _ E _ => hd_none rfl pc E⟩)))
 (tl_ok (by rw [hm]; exact (show MthOK γ m_J5_signedHashCode _ from ⟨by decide +kernel, rfl, kok_J5_signedHashCode hm hk, fun pc _ E _ => hd_none rfl pc E⟩))))
 (tn_ok
 (tl_ok (by rw [hm]; exact (show MthOK γ m_J7_copyOf _ from ⟨by decide +kernel, rfl, kok_J7_copyOf hm hk, fun pc _ E _ => hd_none rfl pc E⟩)))
 (tn_ok
 (tl_ok (by rw [hm]; exact (show MthOK γ m_J7_copyOf_2 _ from ⟨by decide +kernel, rfl, kok_J7_copyOf_2 hm hk, fun pc _ E _ => hd_none rfl pc E⟩)))
 (tl_ok (by rw [hm]; exact (show MthOK γ m_J7_copyOf_3 _ from ⟨by decide +kernel, rfl, kok_J7_copyOf_3 hm hk, fun pc _ E _ => hd_none rfl pc E⟩))))))
 (tn_ok
 (tn_ok
 (tl_ok (by rw [hm]; exact (show MthOK γ m_J7_copyOfRange _ from ⟨by decide +kernel, rfl, kok_J7_copyOfRange hm hk, fun pc _ E _ => hd_none rfl pc E⟩)))
 (tl_ok (by rw [hm]; exact (show MthOK γ m_J7_copyOfRangeByte _ from ⟨by decide +kernel, rfl, kok_J7_copyOfRangeByte hm hk, fun pc _ E _ => hd_none rfl pc E⟩))))
 (tn_ok
 (tl_ok (by rw [hm]; exact (show MthOK γ m_J7_checkLength _ from ⟨by decide +kernel, rfl, kok_J7_checkLength hm hk, fun pc _ E _ => hd_none rfl pc E⟩)))
 (tn_ok
 (tl_ok (by rw [hm]; exact (show MthOK γ m_J7_fill _ from ⟨by decide +kernel, rfl, kok_J7_fill hm hk, fun pc _ E _ => hd_none rfl pc E⟩)))
 (tl_ok (by rw [hm]; exact (show MthOK γ m_J8_init _ from ⟨by decide +kernel, rfl, kok_J8_init hm hk, fun pc _ E _ => hd_none rfl pc E⟩)))))))
 (tn_ok
 (tn_ok
 (tn_ok
 (tl_ok (by rw [hm]; exact (show MthOK γ m_J8_append _ from ⟨by decide +kernel, rfl, kok_J8_append hm hk, fun pc _ E _ => hd_none rfl pc E⟩)))
 (tl_ok (by rw [hm]; exact (show MthOK γ m_J8_ensureCapacityInternal _ from ⟨by decide +kernel, rfl, kok_J8_ensureCapacityInternal hm hk, fun pc _ E _ => hd_none rfl pc E⟩))))
 (tn_ok
 (tl_ok (by rw [hm]; exact (show MthOK γ m_J8_newCapacity _ from ⟨by decide +kernel, rfl, kok_J8_newCapacity hm hk, fun pc _ E _ => hd_none rfl pc E⟩)))
 (tn_ok
 (tl_ok (by rw [hm]; exact (show MthOK γ m_J8_isLatin1 _ from ⟨by decide +kernel, rfl, kok_J8_isLatin1 hm hk, fun pc _ E _ => hd_none rfl pc E⟩)))
 (tl_ok (by rw [hm]; exact (show MthOK γ m_J8_getValue _ from ⟨by decide +kernel, rfl, kok_J8_getValue hm hk, fun pc _ E _ => hd_none rfl pc E⟩))))))
 (tn_ok
 (tn_ok
 (tl_ok (by rw [hm]; exact (show MthOK γ m_J8_length _ from ⟨by decide +kernel, rfl, kok_J8_length hm hk, fun pc _ E _ => hd_none rfl pc E⟩)))
 (tl_ok (by rw [hm]; exact (show MthOK γ m_J9_init _ from ⟨by decide +kernel, rfl, kok_J9_init hm hk, fun pc _ E _ => hd_none rfl pc E⟩))))
 (tn_ok
 (tl_ok (by rw [hm]; exact (show MthOK γ m_J9_append _ from ⟨by decide +kernel, rfl, kok_J9_append hm hk, fun pc _ E _ => hd_none rfl pc E⟩)))
 (tn_ok
 (tl_ok (by rw [hm]; exact (show MthOK γ m_J9_toString _ from ⟨by decide +kernel, rfl, kok_J9_toString hm hk, fun pc _ E _ => hd_none rfl pc E⟩)))
 (tl_ok (by rw [hm]; exact (show MthOK γ m_J9_length _ from ⟨by decide +kernel, rfl, kok_J9_length hm hk, fun pc _ E _ => hd_none rfl pc E⟩)))))))))
 (tn_ok
 (tn_ok
 (tn_ok
 (tn_ok
 (tn_ok
 (tl_ok (by rw [hm]; exact (show MthOK γ m_J10_checkIndex _ from ⟨by decide +kernel, rfl, kok_J10_checkIndex hm hk, fun pc _ E _ => hd_none rfl pc E⟩)))
 (tl_ok (by rw [hm]; exact (show MthOK γ m_J10_init _ from ⟨by decide +kernel, rfl, kok_J10_init hm hk, fun pc _ E _ => hd_none rfl pc E⟩))))
 (tn_ok
 (tl_ok (by rw [hm]; exact (show MthOK γ m_J10_init_2 _ from ⟨by decide +kernel, rfl, kok_J10_init_2 hm hk, fun pc _ E _ => hd_none rfl pc E⟩)))
 (tn_ok
 (tl_ok (by rw [hm]; exact (show MthOK γ m_J10_length _ from ⟨by decide +kernel, rfl, kok_J10_length hm hk, fun pc _ E _ => hd_none rfl pc E⟩)))
 (tl_ok (by rw [hm]; exact (show MthOK γ m_J10_coder _ from ⟨by decide +kernel, rfl, kok_J10_coder hm hk, fun pc _ E _ => hd_none rfl pc E⟩))))))
 (tn_ok
 (tn_ok
 (tl_ok (by rw [hm]; exact (show MthOK γ m_J10_hashCode _ from ⟨by decide +kernel, rfl, kok_J10_hashCode hm hk, fun pc _ E _ => hd_none rfl pc E⟩)))
 (tl_ok (by rw [hm]; exact (show MthOK γ m_J10_isLatin1 _ from ⟨by decide +kernel, rfl, kok_J10_isLatin1 hm hk, fun pc _ E _ => hd_none rfl pc E⟩))))
 (tn_ok
 (tl_ok (by rw [hm]; exact (show MthOK γ m_J10_equals _ from ⟨by decide +kernel, rfl, kok_J10_equals hm hk, fun pc _ E _ => hd_none rfl pc E⟩)))
 (tn_ok
 (tl_ok (by rw [hm]; exact (show MthOK γ m_J10_charAt _ from ⟨by decide +kernel, rfl, kok_J10_charAt hm hk, fun pc _ E _ => hd_none rfl pc E⟩)))
 (tl_ok (by rw [hm]; exact (show MthOK γ m_J12_canEncode _ from ⟨by decide +kernel, rfl, kok_J12_canEncode hm hk, fun pc _ E _ => hd_none rfl pc E⟩)))))))
 (tn_ok
 (tn_ok
 (tn_ok
 (tl_ok (by rw [hm]; exact (show MthOK γ m_J12_hashCode _ from ⟨by decide +kernel, rfl, kok_J12_hashCode hm hk, fun pc _ E _ => hd_none rfl pc E⟩)))
 (tl_ok (by rw [hm]; exact (show MthOK γ m_J12_equals _ from ⟨by decide +kernel, rfl, kok_J12_equals hm hk, fun pc _ E _ => hd_none rfl pc E⟩))))
 (tn_ok
 (tl_ok (by rw [hm]; exact (show MthOK γ m_J12_charAt _ from ⟨by decide +kernel, rfl, kok_J12_charAt hm hk, fun pc _ E _ => hd_none rfl pc E⟩)))
 (tn_ok
 (tl_ok (by rw [hm]; exact (show MthOK γ m_J13_init_2 _ from ⟨by decide +kernel, rfl, kok_J13_init_2 hm hk, fun pc _ E _ => hd_none rfl pc E⟩)))
 (tl_ok (by rw [hm]; exact (show MthOK γ m_J13_init_3 _ from ⟨by decide +kernel, rfl, kok_J13_init_3 hm hk, fun pc _ E _ => hd_none rfl pc E⟩))))))
 (tn_ok
 (tn_ok
 (tl_ok (by rw [hm]; exact (show MthOK γ m_J14_init _ from ⟨by decide +kernel, rfl, kok_J14_init hm hk, fun pc _ E _ => hd_none rfl pc E⟩)))
 (tl_ok (by rw [hm]; exact (show MthOK γ m_J14_init_2 _ from ⟨by decide +kernel, rfl, kok_J14_init_2 hm hk, fun pc _ E _ => hd_none rfl pc E⟩))))
 (tn_ok
 (tl_ok (by rw [hm]; exact (show MthOK γ m_J15_init _ from ⟨by decide +kernel, rfl, kok_J15_init hm hk, fun pc _ E _ => hd_none rfl pc E⟩)))
 (tn_ok
 (tl_ok (by rw [hm]; exact (show MthOK γ m_J16_init _ from ⟨by decide +kernel, rfl, kok_J16_init hm hk, fun pc _ E _ => hd_none rfl pc E⟩)))
 (tl_ok (by rw [hm]; exact (show MthOK γ m_J17_bitCount _ from ⟨by decide +kernel, rfl, kok_J17_bitCount hm hk, fun pc _ E _ => hd_none rfl pc E⟩))))))))
 (tn_ok
 (tn_ok
 (tn_ok
 (tn_ok
 (tl_ok (by rw [hm]; exact (show MthOK γ m_X10_init _ from ⟨by decide +kernel, rfl, kok_X10_init hm hk, fun pc _ E _ => hd_none rfl pc E⟩)))
 (tl_ok (by rw [hm]; exact (show MthOK γ m_J18_ordinal _ from ⟨by decide +kernel, rfl, kok_J18_ordinal hm hk, fun pc _ E _ => hd_none rfl pc E⟩))))
 (tn_ok
 (tl_ok (by rw [hm]; exact (show MthOK γ m_X11_init _ from ⟨by decide +kernel, rfl, kok_X11_init hm hk, fun pc _ E _ => hd_none rfl pc E⟩)))
 (tn_ok
 (tl_ok (by rw [hm]; exact (show MthOK γ m_X12_takes _ from ⟨by decide +kernel, rfl, kok_X12_takes hm hk, fun pc _ E _ => hd_none rfl pc E⟩)))
 (tl_ok (by rw [hm]; exact (show MthOK γ m_X12_init _ from ⟨by decide +kernel, rfl, kok_X12_init hm hk, fun pc _ E _ => hd_none rfl pc E⟩))))))
 (tn_ok
 (tn_ok
 (tl_ok (by rw [hm]; exact (show MthOK γ m_X13_init _ from ⟨by decide +kernel, rfl, kok_X13_init hm hk, fun pc _ E _ => hd_none rfl pc E⟩)))
 (tl_ok (by rw [hm]; exact (show MthOK γ m_X14_holds _ from ⟨by decide +kernel, rfl, kok_X14_holds hm hk, fun pc _ E _ => hd_none rfl pc E⟩))))
 (tn_ok
 (tl_ok (by rw [hm]; exact (show MthOK γ m_X14_init _ from ⟨by decide +kernel, rfl, kok_X14_init hm hk, fun pc _ E _ => hd_none rfl pc E⟩)))
 (tn_ok
 (tl_ok (by rw [hm]; exact (show MthOK γ m_X15_holds _ from ⟨by decide +kernel, rfl, kok_X15_holds hm hk, fun pc _ E _ => hd_none rfl pc E⟩)))
 (tl_ok (by rw [hm]; exact (show MthOK γ m_X15_init _ from ⟨by decide +kernel, rfl, kok_X15_init hm hk, fun pc _ E _ => hd_none rfl pc E⟩)))))))
 (tn_ok
 (tn_ok
 (tn_ok
 (tl_ok (by rw [hm]; exact (show MthOK γ m_X16_holds _ from ⟨by decide +kernel, rfl, kok_X16_holds hm hk, fun pc _ E _ => hd_none rfl pc E⟩)))
 (tl_ok (by rw [hm]; exact (show MthOK γ m_X16_init _ from ⟨by decide +kernel, rfl, kok_X16_init hm hk, fun pc _ E _ => hd_none rfl pc E⟩))))
 (tn_ok
 (tl_ok (by rw [hm]; exact (show MthOK γ m_X17_in _ from ⟨by decide +kernel, rfl, kok_X17_in hm hk, fun pc _ E _ => hd_none rfl pc E⟩)))
 (tn_ok
 (tl_ok (by rw [hm]; exact (show MthOK γ m_X17_init _ from ⟨by decide +kernel, rfl, kok_X17_init hm hk, fun pc _ E _ => hd_none rfl pc E⟩)))
 (tl_ok (by rw [hm]; exact (show MthOK γ m_X18_in _ from ⟨by decide +kernel, rfl, kok_X18_in hm hk, fun pc _ E _ => hd_none rfl pc E⟩))))))
 (tn_ok
 (tn_ok
 (tl_ok (by rw [hm]; exact (show MthOK γ m_X18_init _ from ⟨by decide +kernel, rfl, kok_X18_init hm hk, fun pc _ E _ => hd_none rfl pc E⟩)))
 (tl_ok (by rw [hm]; exact (show MthOK γ m_X19_of _ from ⟨by decide +kernel, rfl, kok_X19_of hm hk, fun pc _ E _ => hd_none rfl pc E⟩))))
 (tn_ok
 (tl_ok (by rw [hm]; exact (show MthOK γ m_X19_values _ from ⟨by decide +kernel, rfl, kok_X19_values hm hk, fun pc _ E _ => hd_none rfl pc E⟩)))
 (tn_ok
 (tl_ok (by rw [hm]; exact (show MthOK γ m_X20_holds _ from ⟨by decide +kernel, rfl, kok_X20_holds hm hk, fun pc _ E _ => hd_none rfl pc E⟩)))
 (tl_ok (by rw [hm]; exact (show MthOK γ m_X20_init _ from ⟨by decide +kernel, rfl, kok_X20_init hm hk, fun pc _ E _ => hd_none rfl pc E⟩)))))))))))
theorem tTab_ok {γ : AG} (hm : γ.2.2.2.2.1 = mTab) (hk : γ.2.2.2.2.2 = kTab) (y : Nat) : (∀ pc, (tTab y).1 pc = none) ∨ MthOK γ (γ.2.2.2.2.1 y) (tTab y) := by
  unfold tTab
  cases h : tTree y with
  | none => exact Or.inl (fun _ => rfl)
  | some a => exact Or.inr (tTree_ok hm hk y a h)
