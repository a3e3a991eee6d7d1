/-! THE LAW, framework: the class's heap and the model's side by side -/
set_option maxRecDepth 100000
def jn (a b : AH) : AH := fun q => match a q with | some e => some e | none => b q
def DJ (a b : AH) : Prop := ∀ q, a q = none ∨ b q = none
theorem jn_l {a b : AH} {q : Nat} {e : va_E} (h : a q = some e) : jn a b q = some e := by unfold jn; rw [h]
theorem jn_n {a b : AH} {q : Nat} (h : a q = none) : jn a b q = b q := by unfold jn; rw [h]
theorem jn_r {a b : AH} (d : DJ a b) {q : Nat} {e : va_E} (h : b q = some e) : jn a b q = some e := by
  rcases d q with z | z
  · rw [jn_n z]; exact h
  · rw [h] at z; cases z
theorem DJ.l {a b a' : AH} (d : DJ a b) (hd : ∀ q, a' q ≠ none → a q ≠ none ∨ jn a b q = none) : DJ a' b := by
  intro q
  by_cases c : a' q = none
  · exact Or.inl c
  · refine Or.inr ?_
    rcases hd q c with z | z
    · exact (d q).resolve_left z
    · cases hb : b q with
      | none => rfl
      | some e => rw [jn_r d hb] at z; cases z
theorem DJ.r {a b b' : AH} (d : DJ a b) (hd : ∀ q, b' q ≠ none → b q ≠ none ∨ jn a b q = none) : DJ a b' := by
  intro q
  by_cases c : b' q = none
  · exact Or.inr c
  · refine Or.inl ?_
    rcases hd q c with z | z
    · exact (d q).resolve_right z
    · cases ha : a q with
      | none => rfl
      | some e => rw [jn_l ha] at z; cases z
theorem mrg_l {a b a' : AH} (d : DJ a b) (d' : DJ a' b) : mrg (jn a b) a a' = jn a' b := by
  funext q
  by_cases c : a q = none
  · cases hb : b q with
    | none => rw [mrg_new ((jn_n c).trans hb)]; cases ha : a' q with
      | none => rw [jn_n ha, hb]
      | some e => rw [jn_l ha]
    | some e => rw [mrg_out c (jn_r d hb), jn_r d' hb]
  · rw [mrg_in c]
    cases ha : a' q with
    | none => rw [jn_n ha, (d q).resolve_left c]
    | some e => rw [jn_l ha]
theorem mrg_r {a b b' : AH} (d : DJ a b) (d' : DJ a b') : mrg (jn a b) b b' = jn a b' := by
  funext q
  by_cases c : b q = none
  · cases ha : a q with
    | none => rw [mrg_new ((jn_n ha).trans c), jn_n ha]
    | some e => rw [mrg_out c (jn_l ha), jn_l ha]
  · rw [mrg_in c, jn_n ((d q).resolve_right c)]
section VL
variable {Γ : GX} {k n : Nat} {hp hpc hc hm : AH} {pc n' : Nat} {L : List (Option Value)} {st : List Value} {cc : ByteArray} {own : String} {ret : Option FieldType} {R : Room}
  {y : MethodName} {b : ByteArray} {nL2 : Nat} {ret2 : Option FieldType} {rm : Room} {As : List Value} {post : Option Value → AH → Prop} {i : Nat} {l c s : Nat}
/-- as v_goes; and what the callee made lies where nothing was -/
theorem v_goes2 {st0 : List Value} {H : Heap} {locs : List Loc} {ls : Array Slot} {a : Array Value} {mc ms : Nat} (hA0 : ∀ q, (gS Γ).heap.size ≤ q → gA Γ q)
    (hr : va_Run (gP Γ) (gL Γ) (gE Γ) (gR Γ) (gS Γ) (gM Γ) (gArgs Γ) (gB Γ) (gMt Γ) (gC Γ) H locs k n mc ms (F0 (gM Γ) pc ls st0) st (QG (gD Γ) post (AA hpc H.size) a) (AA hpc H.size))
    (hsub : ∀ q e, hpc q = some e → hp q = some e) (a1 : HW (gD Γ) hp H) (a2 : ∀ q, hp q ≠ none → gA Γ q) (a3 : va_S (gA Γ) (gS Γ).heap H locs) (a4 : LH ls (gN Γ) L)
    (kk : ∀ r hp', post r hp' → (∀ q, hp' q ≠ none → hpc q ≠ none ∨ hp q = none) → V Γ (k + mc) (n + ms) (mrg hp hpc hp') (pc + 3) L (r.toList ++ st)) : W (gP Γ) (gL Γ) (gE Γ) (gR Γ) (gS Γ) (gM Γ) (gArgs Γ) (gB Γ) (gMt Γ) (gC Γ) H locs k n (gQ Γ) (F0 (gM Γ) pc ls st0) := by
  refine v_goes (a := a) (post := fun r hp' => post r hp' ∧ ∀ q, hp' q ≠ none → hpc q ≠ none ∨ hp q = none) rfl hA0 ?_ hsub a1 a2 a3 a4 (fun r hp' z => kk r hp' z.1 z.2)
  intro T hT X
  obtain ⟨v, st₀, t, T', Lc, h0, X', hL, e1, e2, ⟨⟨r, hp', hv, hpost, hW', hdom⟩, hz⟩, stp⟩ := hr T hT X
  refine ⟨v, st₀, t, T', Lc, h0, X', hL, e1, e2, ⟨⟨r, hp', hv, ⟨hpost, fun q hq => ?_⟩, hW', hdom⟩, hz⟩, stp⟩
  rcases hdom q hq with z | z
  · exact Or.inl z
  · refine Or.inr ?_
    cases hh : hp q with
    | none => rfl
    | some e => exact absurd (a1.lt hh) (Nat.not_lt.mpr z)
/-- a call on a part of the heap -/
theorem vl_V (h : Ok0 cc own ret room_1 Γ) {a ci N : Nat} {T : u_T} {fs : List Value} (hM : CtD (gD Γ) y b nL2 ret2 (rmK l c s) (.ref a :: As) hpc post) (hsub : ∀ q e, hpc q = some e → hp q = some e) (hcl : CL[ci]? = some (y.cls, T, N)) (he : hpc a = some (.inr (ci, fs))) (hw : GoodIn lw_all (wsV own i y.cls y (ws_ y b nL2 ret2)))
    (hd : y.cls ≠ "java/lang/invoke/MethodHandle" ∧ y.cls ≠ "java/lang/invoke/VarHandle" ∧ (parseMethodDescriptor y.desc).map (fun d => d.parameters.length) = some As.length) (hR : l ≤ 1000 ∧ nL2 ≤ 41) (hf : k + c ≤ 601024 ∧ n + s ≤ 7293034) (hst : (st.map fun v => v.category).sum ≤ 8) (d : decode cc pc = .ok (.invokevirtual i, 3)) (hn : pc + 3 = n')
    (kk : ∀ r hp', post r hp' → (∀ q, hp' q ≠ none → hpc q ≠ none ∨ hp q = none) → V Γ (k + c) (n + s) (mrg hp hpc hp') n' L (r.toList ++ st)) {st0 : List Value} (hs0 : st0 = As.reverse ++ .ref a :: st) : V Γ k n hp pc L st0 := fun H locs ls a1 a2 a3 a4 => by
  subst hn
  have hRR := h.2.2.2.2.2.2.2.2.2
  have hpre := v_pre (As := .ref a :: As) h hsub a1 a2 a3
  exact v_goes2 h.2.2.2.2.2.2.2.1 (va_runV (nL := gN Γ) (Ts := lw_all) ⟨h.1, h.2.1, h.2.2.1, h.2.2.2.2.1, h.2.2.2.2.2.1⟩ (hM (gL Γ) H.size) (cwV As.length h.2.2.2.2.2.1 hw rfl rfl rfl ⟨rfl, hd⟩ (by rw [hRR]; show l + 1 ≤ 2048 ∧ 8 + (nL2 + 11) + 60 * l ≤ 84000; omega)) ⟨hpre.1, v_recv h a1 hcl (hsub _ _ he), hpre.2⟩ rfl rfl a4.2.1 hs0 (lv_room hst) d (by rw [hRR]; exact hf)) hsub a1 a2 a3 a4 kk
theorem vl_VW (h : Ok0 cc own ret room_1 Γ) {hh : HL} {a ci N : Nat} {T : u_T} {fs : List Value} (hM : CtW (gD Γ).2.2.1 y b nL2 ret2 hh (rmK l c s) (.ref a :: As) hpc post) (hsub : ∀ q e, hpc q = some e → hp q = some e) (hcl : CL[ci]? = some (y.cls, T, N)) (he : hpc a = some (.inr (ci, fs))) (hl : Cond.methodLink own i y ∈ lw_all) (hinst : Cond.instanceMethod y ∈ lw_all) (hsel : Cond.selects y.cls y y ∈ lw_all) (hini : Cond.initialized y.cls ∈ lw_all) (hcode : Cond.codeWith y b nL2 ret2 hh ∈ lw_all)
    (hd : y.cls ≠ "java/lang/invoke/MethodHandle" ∧ y.cls ≠ "java/lang/invoke/VarHandle" ∧ (parseMethodDescriptor y.desc).map (fun d => d.parameters.length) = some As.length) (hR : l ≤ 1000 ∧ nL2 ≤ 41) (hf : k + c ≤ 601024 ∧ n + s ≤ 7293034) (hst : (st.map fun v => v.category).sum ≤ 8) (d : decode cc pc = .ok (.invokevirtual i, 3)) (hn : pc + 3 = n')
    (kk : ∀ r hp', post r hp' → (∀ q, hp' q ≠ none → hpc q ≠ none ∨ hp q = none) → V Γ (k + c) (n + s) (mrg hp hpc hp') n' L (r.toList ++ st)) {st0 : List Value} (hs0 : st0 = As.reverse ++ .ref a :: st) : V Γ k n hp pc L st0 := fun H locs ls a1 a2 a3 a4 => by
  subst hn
  have hRR := h.2.2.2.2.2.2.2.2.2
  have hpre := v_pre (As := .ref a :: As) h hsub a1 a2 a3
  exact v_goes2 h.2.2.2.2.2.2.2.1 (v_runVW (nL := gN Γ) (mc := c) (ms := s) ⟨h.1, h.2.1, h.2.2.1, h.2.2.2.2.1, h.2.2.2.2.2.1⟩ (hM (gD Γ) rfl (gL Γ) H.size) hl hinst hsel hini hcode rfl rfl hd (by rw [hRR]; show l + 1 ≤ 2048 ∧ 8 + (nL2 + 11) + 60 * l ≤ 84000; omega) ⟨hpre.1, v_recv h a1 hcl (hsub _ _ he), hpre.2⟩ rfl a4.2.1 hs0 (lv_room hst) d (by rw [hRR]; exact hf)) hsub a1 a2 a3 a4 kk
theorem vl_I (h : Ok0 cc own ret room_1 Γ) {a : Nat} (hM : CtD (gD Γ) y b nL2 none rm (.ref a :: As) hpc post) (hsub : ∀ q e, hpc q = some e → hp q = some e) (hcode : Cond.code y b nL2 none ∈ lw_all) (hini : Cond.initialized y.cls ∈ lw_all) (hl : Cond.methodLink own i y ∈ lw_all) (hinst : Cond.instanceMethod y ∈ lw_all) (hnm : y.name = "<init>")
    (hd : y.cls ≠ "java/lang/invoke/MethodHandle" ∧ y.cls ≠ "java/lang/invoke/VarHandle" ∧ (parseMethodDescriptor y.desc).map (fun d => d.parameters.length) = some As.length) (hR : rm.frames + 1 ≤ 2048 ∧ 8 + (nL2 + 11) + rm.locals ≤ 84000) (hf : k + rm.cells ≤ 601024 ∧ n + rm.slots ≤ 7293034) (hst : (st.map fun v => v.category).sum ≤ 8) (d : decode cc pc = .ok (.invokespecial i, 3)) (hn : pc + 3 = n')
    (kk : ∀ r hp', post r hp' → (∀ q, hp' q ≠ none → hpc q ≠ none ∨ hp q = none) → V Γ (k + rm.cells) (n + rm.slots) (mrg hp hpc hp') n' L (r.toList ++ st)) {st0 : List Value} (hs0 : st0 = As.reverse ++ .ref a :: st) : V Γ k n hp pc L st0 := fun H locs ls a1 a2 a3 a4 => by
  subst hn
  have hRR := h.2.2.2.2.2.2.2.2.2
  have hts := h.2.2.2.2.2.1
  exact v_goes2 h.2.2.2.2.2.2.2.1 (va_runI (nL := gN Γ) (Ts := lw_all) ⟨h.1, h.2.1, h.2.2.1, h.2.2.2.2.1, hts⟩ (hM (gL Γ) H.size) (cwI As.length hts (lw_meth hcode) rfl rfl rfl (hts _ hini) (hts _ hl) (hts _ hinst) hnm hd (by rw [hRR]; exact hR)) (v_pre h hsub a1 a2 a3) rfl rfl a4.2.1 hs0 (lv_room hst) d (by rw [hRR]; exact hf)) hsub a1 a2 a3 a4 kk
variable {de : Nat} {P : Int → AH → Prop}
theorem vl_x {a : Nat} {fs : List Value} (h : Ok0 cc own ret room_1 Γ) (hde : (gD Γ).2.2.1 = de) (dj : DJ hc hm) (hM : CtE de y b nL2 ret2 (rmK l c s) (.ref a :: As) hc (rI P)) (hy : y.cls = RX0) (he : hc a = some (.inr (0, fs))) (hw : GoodIn lw_all (wsV own i y.cls y (ws_ y b nL2 ret2)))
    (hd : y.cls ≠ "java/lang/invoke/MethodHandle" ∧ y.cls ≠ "java/lang/invoke/VarHandle" ∧ (parseMethodDescriptor y.desc).map (fun d => d.parameters.length) = some As.length) (hR : l ≤ 1000 ∧ nL2 ≤ 41) (hf : k + c ≤ 601024 ∧ n + s ≤ 7293034) (hst : (st.map fun v => v.category).sum ≤ 8) (d : decode cc pc = .ok (.invokevirtual i, 3)) (hn : pc + 3 = n')
    (kk : ∀ z hp', P z hp' → DJ hp' hm → V Γ (k + c) (n + s) (jn hp' hm) n' L (.int (iI z) :: st)) {st0 : List Value} (hs0 : st0 = As.reverse ++ .ref a :: st) : V Γ k n (jn hc hm) pc L st0 :=
  vl_V (ci := 0) h (hM.d hde) (fun _ _ e => jn_l e) (by rw [hy]; rfl) he hw hd hR hf hst d hn (fun r hp' z w => by
    obtain ⟨v, e1, e2⟩ := z
    subst e1
    have d' := dj.l w
    rw [mrg_l dj d']
    exact kk v hp' e2 d') hs0
theorem vl_xj {a : Nat} {fs : List Value} (h : Ok0 cc own ret room_1 Γ) (hde : (gD Γ).2.2.1 = de) (dj : DJ hc hm) (hM : CtE de y b nL2 ret2 (rmK l c s) (.ref a :: As) hc (rJ P)) (hy : y.cls = RX0) (he : hc a = some (.inr (0, fs))) (hw : GoodIn lw_all (wsV own i y.cls y (ws_ y b nL2 ret2)))
    (hd : y.cls ≠ "java/lang/invoke/MethodHandle" ∧ y.cls ≠ "java/lang/invoke/VarHandle" ∧ (parseMethodDescriptor y.desc).map (fun d => d.parameters.length) = some As.length) (hR : l ≤ 1000 ∧ nL2 ≤ 41) (hf : k + c ≤ 601024 ∧ n + s ≤ 7293034) (hst : (st.map fun v => v.category).sum ≤ 8) (d : decode cc pc = .ok (.invokevirtual i, 3)) (hn : pc + 3 = n')
    (kk : ∀ z hp', P z hp' → DJ hp' hm → V Γ (k + c) (n + s) (jn hp' hm) n' L (.long (lI z) :: st)) {st0 : List Value} (hs0 : st0 = As.reverse ++ .ref a :: st) : V Γ k n (jn hc hm) pc L st0 :=
  vl_V (ci := 0) h (hM.d hde) (fun _ _ e => jn_l e) (by rw [hy]; rfl) he hw hd hR hf hst d hn (fun r hp' z w => by
    obtain ⟨v, e1, e2⟩ := z
    subst e1
    have d' := dj.l w
    rw [mrg_l dj d']
    exact kk v hp' e2 d') hs0
theorem vl_xw {hh : HL} {a : Nat} {fs : List Value} (h : Ok0 cc own ret room_1 Γ) (hde : (gD Γ).2.2.1 = de) (dj : DJ hc hm) (hM : CtW de y b nL2 ret2 hh (rmK l c s) (.ref a :: As) hc (rI P)) (hy : y.cls = RX0) (he : hc a = some (.inr (0, fs))) (hl : Cond.methodLink own i y ∈ lw_all) (hinst : Cond.instanceMethod y ∈ lw_all) (hsel : Cond.selects y.cls y y ∈ lw_all) (hini : Cond.initialized y.cls ∈ lw_all) (hcode : Cond.codeWith y b nL2 ret2 hh ∈ lw_all)
    (hd : y.cls ≠ "java/lang/invoke/MethodHandle" ∧ y.cls ≠ "java/lang/invoke/VarHandle" ∧ (parseMethodDescriptor y.desc).map (fun d => d.parameters.length) = some As.length) (hR : l ≤ 1000 ∧ nL2 ≤ 41) (hf : k + c ≤ 601024 ∧ n + s ≤ 7293034) (hst : (st.map fun v => v.category).sum ≤ 8) (d : decode cc pc = .ok (.invokevirtual i, 3)) (hn : pc + 3 = n')
    (kk : ∀ z hp', P z hp' → DJ hp' hm → V Γ (k + c) (n + s) (jn hp' hm) n' L (.int (iI z) :: st)) {st0 : List Value} (hs0 : st0 = As.reverse ++ .ref a :: st) : V Γ k n (jn hc hm) pc L st0 := by
  subst hde
  exact vl_VW (ci := 0) h hM (fun _ _ e => jn_l e) (by rw [hy]; rfl) he hl hinst hsel hini hcode hd hR hf hst d hn (fun r hp' z w => by
    obtain ⟨v, e1, e2⟩ := z
    subst e1
    have d' := dj.l w
    rw [mrg_l dj d']
    exact kk v hp' e2 d') hs0
variable {ad : Nat → Nat} {σ : MS} {Q : Int → MS → Prop}
theorem vl_m (h : Ok0 cc own ret room_1 Γ) (hok : AdOk ad) (hm : MR σ) (dj : DJ hc (mH ad σ)) (hM : MCi y b nL2 ret2 l As σ Q) (hy : y.cls = RX2) (hw : GoodIn lw_all (wsV own i y.cls y (ws_ y b nL2 ret2)))
    (hd : y.cls ≠ "java/lang/invoke/MethodHandle" ∧ y.cls ≠ "java/lang/invoke/VarHandle" ∧ (parseMethodDescriptor y.desc).map (fun d => d.parameters.length) = some As.length) (hR : l ≤ 1000 ∧ nL2 ≤ 41) (hf : k ≤ 601024 ∧ n ≤ 7293034) (hst : (st.map fun v => v.category).sum ≤ 8) (d : decode cc pc = .ok (.invokevirtual i, 3)) (hn : pc + 3 = n')
    (kk : ∀ z σ', Q z σ' → MR σ' → DJ hc (mH ad σ') → V Γ k n (jn hc (mH ad σ')) n' L (.int (iI z) :: st)) {st0 : List Value} (hs0 : st0 = As.reverse ++ .ref (ad 50) :: st) : V Γ k n (jn hc (mH ad σ)) pc L st0 :=
  vl_V (ci := 2) (c := 0) (s := 0) h ((hM ad hok hm).d (D := gD Γ)) (fun _ _ e => jn_r dj e) (by rw [hy]; rfl) mH_obj hw hd hR hf hst d hn (fun r hp' z w => by
    obtain ⟨v, e1, σ', e2, e3, e4⟩ := z
    subst e1 e2
    have d' := dj.r w
    rw [mrg_r dj d']
    exact kk v σ' e4 e3 d') hs0
theorem vl_mj (h : Ok0 cc own ret room_1 Γ) (hok : AdOk ad) (hm : MR σ) (dj : DJ hc (mH ad σ)) (hM : MCj y b nL2 ret2 l As σ Q) (hy : y.cls = RX2) (hw : GoodIn lw_all (wsV own i y.cls y (ws_ y b nL2 ret2)))
    (hd : y.cls ≠ "java/lang/invoke/MethodHandle" ∧ y.cls ≠ "java/lang/invoke/VarHandle" ∧ (parseMethodDescriptor y.desc).map (fun d => d.parameters.length) = some As.length) (hR : l ≤ 1000 ∧ nL2 ≤ 41) (hf : k ≤ 601024 ∧ n ≤ 7293034) (hst : (st.map fun v => v.category).sum ≤ 8) (d : decode cc pc = .ok (.invokevirtual i, 3)) (hn : pc + 3 = n')
    (kk : ∀ z σ', Q z σ' → MR σ' → DJ hc (mH ad σ') → V Γ k n (jn hc (mH ad σ')) n' L (.long (lI z) :: st)) {st0 : List Value} (hs0 : st0 = As.reverse ++ .ref (ad 50) :: st) : V Γ k n (jn hc (mH ad σ)) pc L st0 :=
  vl_V (ci := 2) (c := 0) (s := 0) h ((hM ad hok hm).d (D := gD Γ)) (fun _ _ e => jn_r dj e) (by rw [hy]; rfl) mH_obj hw hd hR hf hst d hn (fun r hp' z w => by
    obtain ⟨v, e1, σ', e2, e3, e4⟩ := z
    subst e1 e2
    have d' := dj.r w
    rw [mrg_r dj d']
    exact kk v σ' e4 e3 d') hs0
/-- the script -/
def SX (Γ : GX) (bs Ln : Nat) (xs : Nat → Int32) : Prop := va_X bs Ln xs (gS Γ) (gS Γ).heap ∧ bs < (gS Γ).heap.size ∧ ¬ gA Γ bs ∧ Ln ≤ 256
variable {bs Ln : Nat} {xs : Nat → Int32}
theorem v_sld (h : Ok0 cc own ret R Γ) (hX : SX Γ bs Ln xs) {j : Int} (d : decode cc pc = .ok (.iaload, 1)) (hn : pc + 1 = n') (hj : 0 ≤ j ∧ j < Ln) (kk : V Γ k n hp n' L (.int (iI (xs j.toNat).toInt) :: st)) : V Γ k n hp pc L (.int (iI j) :: .ref bs :: st) := fun H locs ls a1 a2 a3 a4 => by
  subst hn
  have hL := hX.2.2.2
  refine va_sld h.1 h.2.1 hX.1 hX.2.1 hX.2.2.1 a3 (iI_in hj (by omega)) d ?_
  rw [iI_clamp (by omega)]
  have q := kk H locs ls a1 a2 a3 a4
  rw [iI_of] at q
  exact q
theorem v_slen (h : Ok0 cc own ret R Γ) (hX : SX Γ bs Ln xs) (d : decode cc pc = .ok (.arraylength, 1)) (hn : pc + 1 = n') (kk : V Γ k n hp n' L (.int (iI (Ln : Int)) :: st)) : V Γ k n hp pc L (.ref bs :: st) := fun H locs ls a1 a2 a3 a4 => by
  subst hn
  exact va_slen h.1 h.2.1 hX.1 hX.2.1 hX.2.2.1 a3 d (kk H locs ls a1 a2 a3 a4)
theorem v_icmpS (h : Ok0 cc own ret R Γ) {x y off : Int} {tgt : Nat} (d : decode cc pc = .ok (.if_icmp .eq off, 3)) (ht : (pc : Int) + off = (tgt : Int)) (e : x = y) (kt : V Γ k n hp tgt L st) : V Γ k n hp pc L (.int (iI y) :: .int (iI x) :: st) := fun H locs ls a1 a2 a3 a4 => by
  subst e
  exact lv_icmp_eq h.1 h.2.1 d ht (fun _ => kt H locs ls a1 a2 a3 a4) (fun z => absurd rfl z)
theorem v_lcmpS (h : Ok0 cc own ret R Γ) {x y : Int} (d : decode cc pc = .ok (.lcmp, 1)) (hn : pc + 1 = n') (e : x = y) (kk : V Γ k n hp n' L (.int (iI 0) :: st)) : V Γ k n hp pc L (.long (lI y) :: .long (lI x) :: st) := fun H locs ls a1 a2 a3 a4 => by
  subst hn e
  have q := kk H locs ls a1 a2 a3 a4
  rw [show iI 0 = lg_cmp (lI x) (lI x) by unfold lg_cmp; simp [iI_0]] at q
  exact W.lcmp h.1 h.2.1 d q
end VL
