/-! FRAMEWORK 7: calls of methods that throw -/
set_option maxRecDepth 100000
/-- x is being thrown at pc of this method -/
def VT (Γ : GX) (k n : Nat) (hp : AH) (pc : Nat) (L : List (Option Value)) (st : List Value) (x : Nat) : Prop :=
  ∀ (H : Heap) (locs : List Loc) (ls : Array Slot), HW (gD Γ) hp H → (∀ a, hp a ≠ none → gA Γ a) → va_S (gA Γ) (gS Γ).heap H locs → LH ls (gN Γ) L →
    ∀ T : State, T.heap = H → Stand (gP Γ) (gL Γ) (gE Γ) (gR Γ) (gS Γ) (gM Γ) (gArgs Γ) (gB Γ) (gMt Γ) (gC Γ) T locs k n → ∃ t, Steps (gP Γ).tables (gE Γ) (gB Γ) ((T.setTop (F0 (gM Γ) pc ls st)).pushFrame (.throwing x)) t ∧ gQ Γ t
section VT2
variable {Γ : GX} {k n : Nat} {hp : AH} {pc : Nat} {L : List (Option Value)} {st : List Value} {cc : ByteArray} {own : String} {ret : Option FieldType}
theorem VT.out {R : Room} (h : Ok0 cc own ret R Γ) {postx : Nat → AH → Prop} {mc ms : Nat} (hq : RtT postx mc ms Γ) (hx : (gC Γ).exceptionTable.toList = []) {x : Nat} (hk : k = mc) (hn : n = ms) (hp1 : postx x hp) : VT Γ k n hp pc L st x := by
  subst hk hn
  intro H locs ls a1 a2 a3 a4 T hT X
  obtain ⟨s1, s2, s3, s4, s5⟩ := X.leaveThrown x (g := F0 (gM Γ) pc ls st) rfl rfl rfl (fun y hy => by rw [hx] at hy; cases hy) h.2.2.2.2.2.2.2.2.1
  refine ⟨_, s1, ?_⟩
  rw [hq]
  have hT2 : (T.setFrames (.throwing x :: gB Γ)).heap = H := by rw [← hT]; rfl
  exact ⟨.threw x, s2, s3, ⟨⟨x, hp, rfl, hp1, by rw [hT2]; exact a1, a2⟩, a3.F hT2⟩, locs, ⟨⟨x, rfl⟩, s4, s5⟩, a3.2.2⟩
variable {l l' c c' s s' : Nat} {y : MethodName} {b : ByteArray} {nL2 : Nat} {ret2 : Option FieldType} {As : List Value} {postx : Nat → AH → Prop} {i : Nat}
/-- from the machine's call on: the callee throws -/
theorem vt_goes (h : Ok0 cc own ret (rmK l' c' s') Γ) (hM : ∀ sz, MetT (gL Γ) y (ws_ y b nL2 ret2) (rmK l c s) (va_Pc As (fun U => U.heap.size = sz ∧ HW (gD Γ) hp U.heap ∧ EE (gD Γ) (AA hp sz) U)) (QT (gD Γ) postx (AA hp sz)) c s (AA hp sz))
    (hcode : Cond.code y b nL2 ret2 ∈ lw_all) (hini : Cond.initialized y.cls ∈ lw_all) (hR : l + 1 ≤ l' ∧ nL2 ≤ 41) (hf : k + c ≤ c' ∧ n + s ≤ s') (hst : (st.map fun v => v.category).sum ≤ 8) {ig : Instr} (d : decode cc pc = .ok (ig, 3)) (kk : ∀ x hp', postx x hp' → VT Γ (k + c) (n + s) hp' pc L st x)
    {H : Heap} {locs : List Loc} {ls : Array Slot} (a1 : HW (gD Γ) hp H) (a2 : ∀ q, hp q ≠ none → gA Γ q) (a3 : va_S (gA Γ) (gS Γ).heap H locs) (a4 : LH ls (gN Γ) L)
    {T : State} (hT : T.heap = H) (X : Stand (gP Γ) (gL Γ) (gE Γ) (gR Γ) (gS Γ) (gM Γ) (gArgs Γ) (gB Γ) (gMt Γ) (gC Γ) T locs k n) {mk : MethodId} (hn : T.methodNamed? y = some mk) :
    ∃ t, Steps (gP Γ).tables (gE Γ) (gB Γ) (doInvoke (gE Γ) (T.setTop (F0 (gM Γ) pc ls st)) [] mk As.toArray).1 t ∧ gQ Γ t := by
  have hRR := h.2.2.2.2.2.2.2.2.2
  have hts := h.2.2.2.2.2.1
  have hR2 := lvK (c := c) (s := s) (c' := c') (s' := s') hR
  rw [← hRR] at hR2
  have hpay := pay_in hts (lw_meth hcode)
  have h1 : (headSpec (ws_ y b nL2 ret2) (rmK l c s)).pre.before As.toArray T = true := atoms_intro fun w hw => hpay w hw _ _ X.warmed
  have h2 : (Cond.code y b nL2 ret2).before As.toArray T = true := hpay _ List.mem_cons_self _ _ X.warmed
  have h3 : (Cond.initialized y.cls).before As.toArray T = true := word_at X.warmed (good_of_word (List.mem_filter.mp hini).2) (hts _ hini)
  obtain ⟨methY, cY, hmY, hcY, -, hlY, -, -, -, -⟩ := Cond.code_spec hn h2
  obtain ⟨kY, hkY, -⟩ := className_of_methodNamed hn
  have hinitY : kY.init = .initialized := Cond.initialized_spec (findClass_of_methodNamed hn) hkY h3
  have hAt : At T (F0 (gM Γ) pc ls st).method (gC Γ) (gB Γ) := X.here
  have hWs : 2 * (F0 (gM Γ) pc ls st).monitorRoom + ((F0 (gM Γ) pc ls st).stack.map fun v => v.category).sum ≤ 8 := lv_room hst
  have happ : (headSpec (ws_ y b nL2 ret2) (rmK l c s)).appliesLoose y (gE Γ).platform (T.calling (F0 (gM Γ) pc ls st) mk As.toArray) = true :=
    Spec.appliesLoose_calling (g := F0 (gM Γ) pc ls st) hAt (by rw [h.2.1]; exact d) hn hkY hinitY
      (X.room_calling (g := F0 (gM Γ) pc ls st) (R' := (headSpec (ws_ y b nL2 ret2) (rmK l c s)).room) (by rw [h.2.2.1]; exact a4.2.1) hmY hcY hR2.1 (by rw [hlY]; have := hR2.2; show _ + (rmK l c s).locals ≤ _; omega) (by rw [hRR]; exact hf.1) (by rw [hRR]; exact hf.2)) h1
  obtain ⟨mid, hmid⟩ := hAt.above
  have hfr : (T.setTop (F0 (gM Γ) pc ls st)).frames = (.java (F0 (gM Γ) pc ls st) :: mid) ++ gB Γ := by rw [State.frames_setTop' (F0 (gM Γ) pc ls st) hAt.top, hmid]; rfl
  have hpre := v_pre (As := As) h (fun _ _ e => e) a1 a2 a3
  obtain ⟨o, s₂, hsteps, -, hend, hq⟩ := Steps.callFree (hM H.size) (gP Γ) X.admits X.cas X.clock (acts := []) hfr happ (hpre.1 _ _ _ _ (hpre.2 T hT X.warmed)) trivial
  rw [State.frames_setTop' (F0 (gM Γ) pc ls st) hAt.top, X.tail] at hend
  obtain ⟨⟨⟨x, hp', ho, hpx, hW', hdom⟩, hz, hkeep⟩, Lc, ⟨-, e1, e2⟩, hL⟩ := hq
  subst ho
  obtain ⟨T', X', hW2, hs2, ht⟩ := X.outOfThrown (g := F0 (gM Γ) pc ls st) rfl hend e1 e2
  subst ht
  have hz : T.heap.size ≤ T'.heap.size := hz
  have hkeep : ∀ q : Nat, q < T.heap.size → ¬ AA hp H.size q → T'.heap[q]? = T.heap[q]? := hkeep
  have hsubA : ∀ q, AA hp H.size q → gA Γ q := by
    intro q hq
    rcases hq with hq | hq
    · exact a2 q hq
    · exact h.2.2.2.2.2.2.2.1 q (Nat.le_trans a3.1 hq)
  rw [hT] at hz hkeep
  obtain ⟨t, q1, q2⟩ := kk x hp' hpx T'.heap (locs ++ Lc) ls hW' (fun q hq => hsubA q (hdom q hq)) ⟨Nat.le_trans a3.1 hz, fun q g1 g2 => by rw [hkeep q (Nat.lt_of_lt_of_le g1 a3.1) (fun z => g2 (hsubA q z))]; exact a3.2.1 q g1 g2, fun q hq => by
      rcases List.mem_append.mp hq with h | h
      · exact a3.2.2 q h
      · exact hsubA _ (hL q h)⟩ a4 T' rfl X'
  exact ⟨t, hsteps.trans q1, q2⟩
end VT2
