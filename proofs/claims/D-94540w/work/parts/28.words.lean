/-! ===== SOUNDNESS: the calls' own words ===== -/
theorem recv_at {γ : AG} {q : AMi} {x : MC} {d : Nat} (C : aCx γ x q d) {h : AH} {H : Heap} (r : aRel γ (xs x) h H) {b ci : Nat} (hc : hci h b = some ci) {C0 : String} (hC : (clR[ci]?).map (fun r => r.1) = some C0) : ∃ cellB : Cell, H[b]? = some cellB ∧ cellB.vm.isStatics = false ∧ (xs x).vm.findClass C0 = some cellB.cls := by
  unfold hci at hc
  split at hc
  · next bb ci' fs e =>
    cases hc
    have hat := r.2.2.1 b _ e
    cases bb with
    | true =>
      obtain ⟨-, r', hr', cell, q1, q2, q3, q4⟩ := hat
      rw [clR_T hr'] at hC
      cases hC
      exact ⟨cell, q1, by rw [q3]; rfl, by rw [q2]; exact (C.2.2.2.2.2.1.1.1 _ _ hr').2.1⟩
    | false =>
      obtain ⟨-, r', cell, hr', q1, q2, q3, q4, q5⟩ := hat
      rw [hr'] at hC
      cases hC
      exact ⟨cell, q1, q3, q4⟩
  · cases hc
/-- the room of a callee -/
theorem room_ok {γ : AG} {q : AMi} {x : MC} {d L : Nat} {h h' : AH} (C : aCx γ x q (d + 1)) (hL : L ≤ 80) : (aRoom d h h').frames + 1 ≤ x.2.2.2.1.frames ∧ 8 + (L + 11) + (aRoom d h h').locals ≤ x.2.2.2.1.locals := by
  have h1 := C.2.2.2.2.2.2.2.2.1
  have h2 := C.2.2.2.2.2.2.2.2.2.1
  exact ⟨by show d + 10 + 1 ≤ _; omega, by show 8 + (L + 11) + (100 * d + 200) ≤ _; omega⟩
theorem fx_of {γ : AG} {q : AMi} {x : MC} {d : Nat} (C : aCx γ x q d) : CallFix x.1 (xm x) x.2.2.2.2.2.2.2.2.2 q.2.1 q.2.2.1 (xs x) x.2.2.2.2.2.2.1 lw_all q.1.cls := ⟨C.1, C.2.1, C.2.2.1, C.2.2.2.1, C.2.2.2.2.1⟩
def dLen (desc : String) (n : Nat) : Prop := (parseMethodDescriptor desc).map (fun d => d.parameters.length) = some n
section
variable {γ : AG} {q : AMi} {pc : Nat} {y n index L : Nat} {nm : MethodName} {bytes : ByteArray} {r : Option FieldType}
abbrev noMH (nm : MethodName) : Prop := nm.cls ≠ "java/lang/invoke/MethodHandle" ∧ nm.cls ≠ "java/lang/invoke/VarHandle"
theorem run_S (hy : γ.2.2.2.2.1 y = (nm, bytes, L, r, none)) (h1 : Cond.methodLink q.1.cls index nm ∈ lw_all) (h2 : Cond.static nm ∈ lw_all) (h3 : Cond.initialized nm.cls ∈ lw_all) (h4 : Cond.code nm bytes L r ∈ lw_all) (hd : noMH nm ∧ dLen nm.desc n) (hL : L ≤ 80) (hdg : decode q.2.1 pc = .ok (.invokestatic index, 3)) : SRunOK γ q pc y n := by
  intro x d C As h out h' hM hlen H locs cells slots A rest hrel hA hs c1 c2
  unfold aMet at hM
  rw [hy] at hM
  exact vx_runS (n := n) (fx_of C) hM (va_cwS n C.2.2.2.2.1 (lw_S h1 h2 h3 h4) rfl rfl rfl ⟨hd.1.1, hd.1.2, hd.2⟩ (room_ok C hL)) ⟨blind_aPc, pre_aPc C hrel⟩ rfl hlen hA rfl (lv_room hs) hdg ⟨c1, c2⟩
theorem run_SX {hh : List (Nat × Nat × Nat × Nat)} (hy : γ.2.2.2.2.1 y = (nm, bytes, L, r, some hh)) (h1 : Cond.methodLink q.1.cls index nm ∈ lw_all) (h2 : Cond.static nm ∈ lw_all) (h3 : Cond.initialized nm.cls ∈ lw_all) (h4 : Cond.codeWith nm bytes L r hh ∈ lw_all) (hd : noMH nm ∧ dLen nm.desc n) (hL : L ≤ 80) (hdg : decode q.2.1 pc = .ok (.invokestatic index, 3)) : SRunOK γ q pc y n := by
  intro x d C As h out h' hM hlen H locs cells slots A rest hrel hA hs c1 c2
  unfold aMet at hM
  rw [hy] at hM
  exact vx_runSX (n := n) (fx_of C) hM (vx_cwSW n C.2.2.2.2.1 (lw_SW h1 h2 h3 h4) rfl rfl rfl ⟨hd.1.1, hd.1.2, hd.2⟩ (room_ok C hL)) ⟨blind_aPc, pre_aPc C hrel⟩ rfl hlen hA rfl (lv_room hs) hdg ⟨c1, c2⟩
theorem run_SN {host : String} (hy : γ.2.2.2.2.1 y = (nm, bytes, L, r, none)) (h1 : Cond.methodLinkNest q.1.cls index nm host ∈ lw_tbl) (h2 : Cond.static nm ∈ lw_all) (h3 : Cond.initialized nm.cls ∈ lw_all) (h4 : Cond.code nm bytes L r ∈ lw_all) (hd : noMH nm ∧ dLen nm.desc n) (hL : L ≤ 80) (hdg : decode q.2.1 pc = .ok (.invokestatic index, 3)) : SRunOK γ q pc y n := by
  intro x d C As h out h' hM hlen H locs cells slots A rest hrel hA hs c1 c2
  unfold aMet at hM
  rw [hy] at hM
  exact vx_runSN (n := n) (fx_of C) hM ⟨va_cnB n C.2.2.2.2.1 (lw_meth h4) rfl rfl rfl (C.2.2.2.2.2.1.2.1 _ h1 rfl) (C.2.2.2.2.1 _ h3) ⟨hd.1.1, hd.1.2, hd.2⟩ (room_ok C hL), C.2.2.2.2.1 _ h2, trivial⟩ ⟨blind_aPc, pre_aPc C hrel⟩ rfl hlen hA rfl (lv_room hs) hdg ⟨c1, c2⟩
theorem run_I (hy : γ.2.2.2.2.1 y = (nm, bytes, L, none, none)) (h1 : Cond.methodLink q.1.cls index nm ∈ lw_all) (h2 : Cond.instanceMethod nm ∈ lw_all) (h3 : Cond.initialized nm.cls ∈ lw_all) (h4 : Cond.code nm bytes L none ∈ lw_all) (hi : nm.name = "<init>") (hd : noMH nm ∧ dLen nm.desc n) (hL : L ≤ 80) (hdg : decode q.2.1 pc = .ok (.invokespecial index, 3)) : IRunOK γ q pc y n := by
  intro x d C b As h out h' hM hlen H locs cells slots A rest hrel hA hs c1 c2
  unfold aMet at hM
  rw [hy] at hM
  exact vx_runI (n := n) (fx_of C) hM (cwI n C.2.2.2.2.1 (lw_meth h4) rfl rfl rfl (C.2.2.2.2.1 _ h3) (C.2.2.2.2.1 _ h1) (C.2.2.2.2.1 _ h2) hi ⟨hd.1.1, hd.1.2, hd.2⟩ (room_ok C hL)) ⟨blind_aPc, pre_aPc C hrel⟩ rfl hlen hA rfl (lv_room hs) hdg ⟨c1, c2⟩
theorem run_IN {host : String} (hy : γ.2.2.2.2.1 y = (nm, bytes, L, none, none)) (h1 : Cond.methodLinkNest q.1.cls index nm host ∈ lw_tbl) (h2 : Cond.instanceMethod nm ∈ lw_all) (h3 : Cond.initialized nm.cls ∈ lw_all) (h4 : Cond.code nm bytes L none ∈ lw_all) (hi : nm.name = "<init>") (hd : noMH nm ∧ dLen nm.desc n) (hL : L ≤ 80) (hdg : decode q.2.1 pc = .ok (.invokespecial index, 3)) : IRunOK γ q pc y n := by
  intro x d C b As h out h' hM hlen H locs cells slots A rest hrel hA hs c1 c2
  unfold aMet at hM
  rw [hy] at hM
  exact vx_runIN (n := n) (fx_of C) hM ⟨va_cnB n C.2.2.2.2.1 (lw_meth h4) rfl rfl rfl (C.2.2.2.2.2.1.2.1 _ h1 rfl) (C.2.2.2.2.1 _ h3) ⟨hd.1.1, hd.1.2, hd.2⟩ (room_ok C hL), hi, C.2.2.2.2.1 _ h2⟩ ⟨blind_aPc, pre_aPc C hrel⟩ rfl hlen hA rfl (lv_room hs) hdg ⟨c1, c2⟩
theorem run_V {ci : Nat} {C0 : String} (hC : (clR[ci]?).map (fun r => r.1) = some C0) (hnm : nm.cls = C0) (hy : γ.2.2.2.2.1 y = (nm, bytes, L, r, none)) (h1 : Cond.methodLink q.1.cls index nm ∈ lw_all) (h2 : Cond.instanceMethod nm ∈ lw_all) (h3 : Cond.selects C0 nm nm ∈ lw_all) (h5 : Cond.initialized C0 ∈ lw_all) (h4 : Cond.code nm bytes L r ∈ lw_all) (hd : noMH nm ∧ dLen nm.desc n) (hL : L ≤ 80) (hdg : decode q.2.1 pc = .ok (.invokevirtual index, 3)) : VRunOK γ q pc ci y n := by
  intro x d C b As h out h' hM hlen hci' H locs cells slots A rest hrel hA hs c1 c2
  unfold aMet at hM
  rw [hy] at hM
  exact vx_runV (n := n) (C := C0) (fx_of C) hM (cwV n C.2.2.2.2.1 (lw_V h1 h2 h3 h5 h4) rfl rfl rfl ⟨hnm, hd.1.1, hd.1.2, hd.2⟩ (room_ok C hL)) ⟨blind_aPc, recv_at C hrel hci' hC, pre_aPc C hrel⟩ rfl hlen hA rfl (lv_room hs) hdg ⟨c1, c2⟩
theorem run_VX {hh : List (Nat × Nat × Nat × Nat)} {ci : Nat} {C0 : String} (hC : (clR[ci]?).map (fun r => r.1) = some C0) (hnm : nm.cls = C0) (hy : γ.2.2.2.2.1 y = (nm, bytes, L, r, some hh)) (h1 : Cond.methodLink q.1.cls index nm ∈ lw_all) (h2 : Cond.instanceMethod nm ∈ lw_all) (h3 : Cond.selects C0 nm nm ∈ lw_all) (h5 : Cond.initialized C0 ∈ lw_all) (h4 : Cond.codeWith nm bytes L r hh ∈ lw_all) (hd : noMH nm ∧ dLen nm.desc n) (hL : L ≤ 80) (hdg : decode q.2.1 pc = .ok (.invokevirtual index, 3)) : VRunOK γ q pc ci y n := by
  intro x d C b As h out h' hM hlen hci' H locs cells slots A rest hrel hA hs c1 c2
  unfold aMet at hM
  rw [hy] at hM
  exact vx_runVX (n := n) (C := C0) (fx_of C) hM (vx_cwVW n C.2.2.2.2.1 (lw_VW h1 h2 h3 h5 h4) rfl rfl rfl ⟨hnm, hd.1.1, hd.1.2, hd.2⟩ (room_ok C hL)) ⟨blind_aPc, recv_at C hrel hci' hC, pre_aPc C hrel⟩ rfl hlen hA rfl (lv_room hs) hdg ⟨c1, c2⟩
/-- an inherited method: the reference names nx, the class C0 runs nm, nx's own -/
theorem run_U {ci : Nat} {C0 owner : String} {nx : MethodName} (hC : (clR[ci]?).map (fun r => r.1) = some C0) (hnm : nm = ⟨owner, nx.name, nx.desc⟩) (hy : γ.2.2.2.2.1 y = (nm, bytes, L, r, none)) (h1 : Cond.methodLink q.1.cls index nx ∈ lw_all) (h6 : Cond.sameMethod nx.cls owner nx.name nx.desc ∈ lw_all) (h3 : Cond.selects C0 nx nm ∈ lw_all) (h2 : Cond.instanceMethod nm ∈ lw_all) (h5 : Cond.initialized nm.cls ∈ lw_all) (h4 : Cond.code nm bytes L r ∈ lw_all)
    (hd : (owner ≠ "java/lang/invoke/MethodHandle" ∧ owner ≠ "java/lang/invoke/VarHandle") ∧ dLen nx.desc n) (hL : L ≤ 80) (hdg : decode q.2.1 pc = .ok (.invokevirtual index, 3)) : VRunOK γ q pc ci y n := by
  intro x d C b As h out h' hM hlen hci' H locs cells slots A rest hrel hA hs c1 c2
  unfold aMet at hM
  rw [hy] at hM
  refine vx_runU (n := n) (C := C0) (fx_of C) hM (va_cwU (owner := owner) (x := nx) n C.2.2.2.2.1 (lw_app ?_ (lw_meth h4)) rfl rfl rfl hnm ⟨hd.1.1, hd.1.2, hd.2⟩ (room_ok C hL)) ⟨blind_aPc, recv_at C hrel hci' hC, pre_aPc C hrel⟩ rfl hlen hA rfl (lv_room hs) hdg ⟨c1, c2⟩
  intro w hw
  simp only [List.mem_cons, List.not_mem_nil, or_false] at hw
  rcases hw with e | e | e | e | e <;> rw [e] <;> assumption
/-- an overriding method: the reference names nx, the class C0 runs nm -/
theorem run_O {ci : Nat} {C0 owner : String} {nx : MethodName} {b9 : ByteArray} {m9 : Nat} {r9 : Option FieldType} (hC : (clR[ci]?).map (fun r => r.1) = some C0) (hy : γ.2.2.2.2.1 y = (nm, bytes, L, r, none)) (h1 : Cond.methodLink q.1.cls index nx ∈ lw_all) (h6 : Cond.sameMethod nx.cls owner nx.name nx.desc ∈ lw_all) (h7 : Cond.instanceMethod ⟨owner, nx.name, nx.desc⟩ ∈ lw_all) (h3 : Cond.selects C0 nx nm ∈ lw_all) (h2 : Cond.instanceMethod nm ∈ lw_all) (h5 : Cond.initialized nm.cls ∈ lw_all) (h4 : Cond.code nm bytes L r ∈ lw_all)
    (h9 : Cond.code ⟨owner, nx.name, nx.desc⟩ b9 m9 r9 ∈ lw_all) (hd : (owner ≠ "java/lang/invoke/MethodHandle" ∧ owner ≠ "java/lang/invoke/VarHandle") ∧ dLen nx.desc n) (hL : L ≤ 80) (hdg : decode q.2.1 pc = .ok (.invokevirtual index, 3)) : VRunOK γ q pc ci y n := by
  intro x d C b As h out h' hM hlen hci' H locs cells slots A rest hrel hA hs c1 c2
  unfold aMet at hM
  rw [hy] at hM
  refine vx_runU (n := n) (C := C0) (fx_of C) hM (va_cwO (owner := owner) (x := nx) n C.2.2.2.2.1 (lw_app ?_ (lw_meth h4)) rfl rfl rfl h9 ⟨hd.1.1, hd.1.2, hd.2⟩ (room_ok C hL)) ⟨blind_aPc, recv_at C hrel hci' hC, pre_aPc C hrel⟩ rfl hlen hA rfl (lv_room hs) hdg ⟨c1, c2⟩
  intro w hw
  simp only [List.mem_cons, List.not_mem_nil, or_false] at hw
  rcases hw with e | e | e | e | e | e <;> rw [e] <;> assumption
/-- ASB's private ensureCapacityInternal, on a StringBuilder -/
theorem run_Eci {ci : Nat} (hC : (clR[ci]?).map (fun r => r.1) = some "java/lang/StringBuilder") (hex : Cond.selects "java/lang/StringBuilder" nm nm ∈ exW) (hy : γ.2.2.2.2.1 y = (nm, bytes, L, r, none)) (h1 : Cond.methodLink q.1.cls index nm ∈ lw_all) (h6 : Cond.sameMethod nm.cls nm.cls nm.name nm.desc ∈ lw_all) (h2 : Cond.instanceMethod nm ∈ lw_all) (h5 : Cond.initialized nm.cls ∈ lw_all) (h4 : Cond.code nm bytes L r ∈ lw_all)
    (hd : noMH nm ∧ dLen nm.desc n) (hL : L ≤ 80) (hdg : decode q.2.1 pc = .ok (.invokevirtual index, 3)) : VRunOK γ q pc ci y n := by
  intro x d C b As h out h' hM hlen hci' H locs cells slots A rest hrel hA hs c1 c2
  unfold aMet at hM
  rw [hy] at hM
  obtain ⟨r1, r2⟩ := room_ok (h := h) (h' := h') C hL
  have hsel : (Cond.selects "java/lang/StringBuilder" nm nm).before x.2.2.2.2.2.2.1 (xs x) = true := by
    exact va_Nw.use (exW_ok _ hex).2 (C.2.2.2.2.2.1.2.2.2.1.2 _ hex)
  refine vx_runU (n := n) (C := "java/lang/StringBuilder") (owner := nm.cls) (x := nm) (fx_of C) hM ⟨⟨rfl, rfl, r1, r2, pay_in C.2.2.2.2.1 (lw_meth h4), List.mem_cons_self⟩, C.2.2.2.2.1 _ h4, C.2.2.2.2.1 _ h5, hd.1, fun sig h => ?_, C.2.2.2.2.1 _ h1, C.2.2.2.2.1 _ h6, va_Decl.of (C.2.2.2.2.1 _ h2) (C.2.2.2.2.1 _ h4), hsel, C.2.2.2.2.1 _ h2⟩ ⟨blind_aPc, recv_at C hrel hci' hC, pre_aPc C hrel⟩ rfl hlen hA rfl (lv_room hs) hdg ⟨c1, c2⟩
  have h9 := hd.2
  unfold dLen at h9
  rw [h] at h9
  exact (Option.some.inj h9).symm
/-- super.m(..) -/
theorem run_SU {ci : Nat} {C0 : String} (hC : (clT[ci]?).map (fun r => r.1) = some C0) (hy : γ.2.2.2.2.1 y = (nm, bytes, L, r, none)) (h1 : Cond.methodLink q.1.cls index nm ∈ lw_all) (h6 : Cond.sameMethod nm.cls nm.cls nm.name nm.desc ∈ lw_all) (h3 : Cond.superclass q.1.cls nm.cls ∈ lw_all) (h2 : Cond.instanceMethod nm ∈ lw_all) (h5 : Cond.initialized nm.cls ∈ lw_all) (h4 : Cond.code nm bytes L r ∈ lw_all)
    (hd : nm.name ≠ "<init>" ∧ dLen nm.desc n) (hL : L ≤ 80) (hdg : decode q.2.1 pc = .ok (.invokespecial index, 3)) : VRunOK γ q pc ci y n := by
  intro x d C b As h out h' hM hlen hci' H locs cells slots A rest hrel hA hs c1 c2
  unfold aMet at hM
  rw [hy] at hM
  cases hT : clT[ci]? with
  | none => rw [hT] at hC; cases hC
  | some r0 =>
    have hC2 : (clR[ci]?).map (fun r => r.1) = some C0 := by rw [clR_T hT]; rw [hT] at hC; exact hC
    rw [hT] at hC
    cases hC
    refine vx_runSU (n := n) (C := r0.1) (C.2.2.2.2.2.1.1.1 ci _ hT).2 (fx_of C) hM (va_cwSU n C.2.2.2.2.1 (lw_app ?_ (lw_meth h4)) rfl rfl rfl hd (room_ok C hL)) ⟨blind_aPc, recv_at C hrel hci' hC2, pre_aPc C hrel⟩ rfl hlen hA rfl (lv_room hs) hdg ⟨c1, c2⟩
    intro w hw
    simp only [List.mem_cons, List.not_mem_nil, or_false] at hw
    rcases hw with e | e | e | e | e <;> rw [e] <;> assumption
/-- through an interface -/
theorem run_F {ci count : Nat} {C0 : String} {nx : MethodName} (hC : (clT[ci]?).map (fun r => r.1) = some C0) (hF : (C0, nx, nm) ∈ fwT) (hy : γ.2.2.2.2.1 y = (nm, bytes, L, r, none)) (h1 : Cond.methodLink q.1.cls index nx ∈ lw_all) (h3 : Cond.selects C0 nx nm ∈ lw_all) (h2 : Cond.instanceMethod nm ∈ lw_all) (h5 : Cond.initialized nm.cls ∈ lw_all) (h4 : Cond.code nm bytes L r ∈ lw_all)
    (hd : noMH nx ∧ dLen nx.desc n) (hL : L ≤ 80) (hdg : decode q.2.1 pc = .ok (.invokeinterface index count, 5)) : VRun5OK γ q pc ci y n := by
  intro x d C b As h out h' hM hlen hci' H locs cells slots A rest hrel hA hs c1 c2
  unfold aMet at hM
  rw [hy] at hM
  cases hT : clT[ci]? with
  | none => rw [hT] at hC; cases hC
  | some r0 =>
    have hC2 : (clR[ci]?).map (fun r => r.1) = some C0 := by rw [clR_T hT]; rw [hT] at hC; exact hC
    rw [hT] at hC
    cases hC
    refine vx_runF (n := n) (C := r0.1) (C.2.2.2.2.2.1.1.1 ci _ hT).2 (fx_of C) hM (va_cwF n C.2.2.2.2.1 (lw_app ?_ (lw_meth h4)) rfl rfl rfl (C.2.2.2.2.2.1.2.2.2.2.1 _ hF) ⟨hd.1.1, hd.1.2, hd.2⟩ (room_ok C hL)) ⟨blind_aPc, recv_at C hrel hci' hC2, pre_aPc C hrel⟩ rfl hlen hA rfl (lv_room hs) hdg ⟨c1, c2⟩
    intro w hw
    simp only [List.mem_cons, List.not_mem_nil, or_false] at hw
    rcases hw with e | e | e | e <;> rw [e] <;> assumption
end
/-! throws, ends -/
section
variable {γ : AG} {q : AMi} {pc nx : Nat}
theorem ok_athrow {exs : List Nat} (hdg : decode q.2.1 pc = .ok (.athrow, 1)) : OpOK γ q pc (o_athrow exs) ∧ OpMono (o_athrow exs) := by
  refine ⟨?_, ?_⟩
  · intro x k0 d env C he hm ls st h r hr b1 b2 Q K
    unfold o_athrow at hr
    split at hr
    · next a rest =>
      split at hr
      · next ci fs e =>
        obtain ⟨hb, hz⟩ := bif_inv hr
        cases hz
        intro H locs cells slots A I
        obtain ⟨-, r', hr', cell, q1, q2, q3, q4⟩ := I.1.2.2.1 a _ e
        exact vx_athrow C.1 C.2.1 hdg (K H locs cells slots A rest a cell I q1 q3 (by unfold eName; rw [hr']; rw [q2]; exact (C.2.2.2.2.2.1.1.1 ci _ hr').2.1))
      · cases hr
    · cases hr
  · intro env hm ls st h r hr
    unfold o_athrow at hr
    split at hr
    · split at hr
      · obtain ⟨hb, hz⟩ := bif_inv hr
        cases hz
        exact hLe.rf
      · cases hr
    · cases hr
theorem aQ_of {x : MC} {k0 nL : Nat} {h : AH} {ls : ALs} {H : Heap} {locs : List Loc} {cells slots : Nat} {A : Array Slot} (I : aIn γ x k0 nL h ls H locs cells slots A) (v : Option Value) :
    aQ γ x k0 (.inl v) h = vx_MQ x.2.2.2.2.2.2.2.1 (aQc γ (.inl v) h) (aXc γ (.inl v) h) x.2.2.2.2.2.2.1 (xs x) cells slots (fun q => γ.2.2.1 ≤ q) := by
  unfold aQ
  have e1 := I.1.1
  have e2 := I.2.2.1
  have e3 := I.2.2.2.1
  congr 1 <;> omega
theorem aQc_ret {x : MC} {k0 nL : Nat} {h : AH} {ls : ALs} {H : Heap} {locs : List Loc} {cells slots : Nat} {A : Array Slot} (I : aIn γ x k0 nL h ls H locs cells slots A) (v : Option Value) (t : State) (ht : t.heap = H) (hW : (xs x).WarmedH t.vm) : aQc γ (.inl v) h x.2.2.2.2.2.2.1 (xs x) (.returned v) t :=
  ⟨⟨v, rfl, rfl, by rw [ht]; exact I.1.moved hW.alike⟩, I.2.1.F ht⟩
theorem o_iret_inv {ok : Int32 → Bool} {env : AEnv} {ls : ALs} {st : List Value} {h : AH} {r : ASt ⊕ (AOut × AH)} (hr : o_iret ok env ls st h = some r) : ∃ v, st = [.int v] ∧ ok v = true ∧ r = .inr (.inl (some (.int v)), h) := by
  unfold o_iret at hr
  split at hr
  · obtain ⟨hb, hz⟩ := bif_inv hr
    exact ⟨_, rfl, hb, (Option.some.inj hz).symm⟩
  · cases hr
theorem mono_iret {ok : Int32 → Bool} : OpMono (o_iret ok) := by
  intro env hm ls st h r hr
  obtain ⟨v, rfl, hv, rfl⟩ := o_iret_inv hr
  exact hLe.rf
theorem ok_iret (hret : q.2.2.2.1 = some .int) (hdg : decode q.2.1 pc = .ok (.ireturn, 1)) : OpOK γ q pc (o_iret (fun _ => true)) ∧ OpMono (o_iret (fun _ => true)) := by
  refine ⟨?_, mono_iret⟩
  intro x k0 d env C he hm ls st h r hr b1 b2 Q K
  obtain ⟨v, rfl, hv, rfl⟩ := o_iret_inv hr
  intro H locs cells slots A I
  have K : Q = aQ γ x k0 (.inl (some (.int v))) h := K
  rw [K, aQ_of I]
  exact vx_ret (W.iret C.1 C.2.1 (C.2.2.2.2.2.2.2.2.2.2.2.2.trans hret) (fun t ht hW => aQc_ret I _ t ht hW) I.2.1.2.2 hdg C.2.2.2.2.2.2.1)
theorem ok_zret {ty : FieldType} {ok : Int32 → Bool} (hret : q.2.2.2.1 = some ty) (hok : ∀ v, ok v = true → narrow ty (.int v) = .int v) (hdg : decode q.2.1 pc = .ok (.ireturn, 1)) : OpOK γ q pc (o_iret ok) ∧ OpMono (o_iret ok) := by
  refine ⟨?_, mono_iret⟩
  intro x k0 d env C he hm ls st h r hr b1 b2 Q K
  obtain ⟨v, rfl, hv, rfl⟩ := o_iret_inv hr
  intro H locs cells slots A I
  have K : Q = aQ γ x k0 (.inl (some (.int v))) h := K
  rw [K, aQ_of I]
  exact vx_ret (W.zret C.1 C.2.1 (C.2.2.2.2.2.2.2.2.2.2.2.2.trans hret) (hok v hv) (fun t ht hW => aQc_ret I _ t ht hW) I.2.1.2.2 hdg C.2.2.2.2.2.2.1)
theorem ok_aret {rt : FieldType} (hret : q.2.2.2.1 = some rt) (hrt : (∃ n, rt = .object n) ∨ ∃ t, rt = .array t) (hdg : decode q.2.1 pc = .ok (.areturn, 1)) : OpOK γ q pc o_aret ∧ OpMono o_aret := by
  refine ⟨?_, ?_⟩
  · intro x k0 d env C he hm ls st h r hr b1 b2 Q K
    unfold o_aret at hr
    split at hr
    · next a =>
      cases hr
      intro H locs cells slots A I
      have K : Q = aQ γ x k0 (.inl (some (.ref a))) h := K
      rw [K, aQ_of I]
      exact vx_ret (W.aret C.1 C.2.1 (C.2.2.2.2.2.2.2.2.2.2.2.2.trans hret) hrt (Or.inr ⟨a, rfl⟩) (fun t ht hW => aQc_ret I _ t ht hW) I.2.1.2.2 hdg C.2.2.2.2.2.2.1)
    · cases hr
      intro H locs cells slots A I
      have K : Q = aQ γ x k0 (.inl (some .null)) h := K
      rw [K, aQ_of I]
      exact vx_ret (W.aret C.1 C.2.1 (C.2.2.2.2.2.2.2.2.2.2.2.2.trans hret) hrt (Or.inl rfl) (fun t ht hW => aQc_ret I _ t ht hW) I.2.1.2.2 hdg C.2.2.2.2.2.2.1)
    · cases hr
  · intro env hm ls st h r hr
    unfold o_aret at hr
    split at hr
    · cases hr; exact hLe.rf
    · cases hr; exact hLe.rf
    · cases hr
theorem ok_vret (hret : q.2.2.2.1 = none) (hdg : decode q.2.1 pc = .ok (.return_, 1)) : OpOK γ q pc o_vret ∧ OpMono o_vret := by
  refine ⟨?_, ?_⟩
  · intro x k0 d env C he hm ls st h r hr b1 b2 Q K
    unfold o_vret at hr
    split at hr
    · cases hr
      intro H locs cells slots A I
      have K : Q = aQ γ x k0 (.inl none) h := K
      rw [K, aQ_of I]
      exact vx_ret (W.vret C.1 C.2.1 (C.2.2.2.2.2.2.2.2.2.2.2.2.trans hret) (fun t ht hW => aQc_ret I _ t ht hW) I.2.1.2.2 hdg C.2.2.2.2.2.2.1)
    · cases hr
  · intro env hm ls st h r hr
    unfold o_vret at hr
    split at hr
    · cases hr; exact hLe.rf
    · cases hr
/-- checkcast to nm: the listed classes are castable to it, the listed array types are nm's own -/
theorem ok_cast {cis ts : List Nat} {index : Nat} {nm : String} (hw : Cond.classLink q.1.cls index nm ∈ lw_all) (hc : ∀ ci ∈ cis, (∃ r, clR[ci]? = some r ∧ Cond.castable r.1 nm ∈ lw_tbl) ∨ ∃ r, clT[ci]? = some r ∧ r.1 = nm) (ht : ∀ t ∈ ts, ∀ x : MC, aTab γ (xs x) → (xs x).vm.findClass nm = some (γ.2.1 t)) (hdg : decode q.2.1 pc = .ok (.checkcast index, 3)) (hn : pc + 3 = nx) : PfOK γ q pc (f_cast cis ts nx) := by
  intro x k0 d C ls st h r hr H locs cells slots A Q I kk
  unfold f_cast at hr
  split at hr
  · cases hr
    subst hn
    exact lv_castN C.1 C.2.1 hdg (kk A I.2.2.2.2)
  · next a rest =>
    split at hr
    · next bb ci fs e =>
      obtain ⟨hb, hz⟩ := bif_inv hr
      cases hz
      subst hn
      rcases hc ci (List.contains_iff_mem.mp hb) with ⟨r', hr', hcst⟩ | ⟨r', hr', hcst⟩
      · exact va_castY C.1 C.2.1 C.2.2.2.1 (C.2.2.2.2.1 _ hw) (C.2.2.2.2.2.1.2.1 _ hcst rfl) (recv_at C I.1 (b := a) (ci := ci) (by unfold hci; rw [e]) (by rw [hr']; rfl)) hdg (kk A I.2.2.2.2)
      · exact va_castS C.1 C.2.1 C.2.2.2.1 (C.2.2.2.2.1 _ hw) (by rw [← hcst]; exact (C.2.2.2.2.2.1.1.1 ci _ hr').2) (recv_at C I.1 (b := a) (ci := ci) (by unfold hci; rw [e]) (by rw [clR_T hr']; exact congrArg some hcst)) hdg (kk A I.2.2.2.2)
    · next t k e =>
      obtain ⟨hb, hz⟩ := bif_inv hr
      cases hz
      subst hn
      have hat := I.1.2.2.1 a _ e
      intro T hT X
      obtain ⟨vm', X', st1⟩ := X.checkcastYes C.1 C.2.2.2.1 (C.2.2.2.2.1 _ hw) (by rw [hT]; exact hat.2.2) rfl (ht t (List.contains_iff_mem.mp hb) x C.2.2.2.2.2.1) (va_asg _ _) (g := F0 (xm x) pc A (.ref a :: rest)) rfl rfl (by rw [C.2.1]; exact hdg)
      obtain ⟨t2, a1, b1⟩ := kk A I.2.2.2.2 (T.setVm vm') hT X'
      exact ⟨t2, st1 t2 a1, b1⟩
    · cases hr
  · cases hr
end
