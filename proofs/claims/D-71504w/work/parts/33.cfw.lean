/-! FRAMEWORK 5: contracts that know the empty list's array; calls over the whole heap; references -/
set_option maxRecDepth 100000
def CtD (D : DD) (y : MethodName) (b : ByteArray) (nL : Nat) (ret : Option FieldType) (rm : Room) (As : List Value) (hp : AH) (post : Option Value → AH → Prop) : Prop :=
  ∀ (l : Launch) (sz : Nat), Met l y (ws_ y b nL ret) rm (va_Pc As (fun U => U.heap.size = sz ∧ HW D hp U.heap ∧ EE D (AA hp sz) U)) (QG D post (AA hp sz)) rm.cells rm.slots (AA hp sz)
def CtE (de : Nat) (y : MethodName) (b : ByteArray) (nL : Nat) (ret : Option FieldType) (rm : Room) (As : List Value) (hp : AH) (post : Option Value → AH → Prop) : Prop :=
  ∀ D : DD, D.2.2.1 = de → CtD D y b nL ret rm As hp post
abbrev rmK (l c s : Nat) : Room := { frames := l, cells := c, slots := s, locals := 60 * l }
section CT
variable {de : Nat} {y : MethodName} {b : ByteArray} {nL : Nat} {ret : Option FieldType} {rm : Room} {As : List Value} {hp : AH} {post post' : Option Value → AH → Prop} {L : List (Option Value)}
theorem Ct.d (h : Ct y b nL ret rm As hp post) {D : DD} : CtD D y b nL ret rm As hp post := fun l sz => h l D sz
theorem CtE.d (h : CtE de y b nL ret rm As hp post) {D : DD} (e : D.2.2.1 = de) : CtD D y b nL ret rm As hp post := h D e
theorem CtE.mono (h : CtE de y b nL ret rm As hp post) (hpp : ∀ r hp, post r hp → post' r hp) : CtE de y b nL ret rm As hp post' := by
  intro D hD l sz
  refine MetFree.mono (h D hD l sz) (fun _ _ h => h) (fun _ _ _ _ _ h => h) ?_
  rintro a st o t - ⟨⟨⟨r, hp1, e1, e2, e3⟩, e4⟩, e5⟩
  exact ⟨⟨⟨r, hp1, e1, hpp r hp1 e2, e3⟩, e4⟩, e5⟩
theorem CtE.of {l c s : Nat} (hy : plainName y.cls = true) (hL : EL As nL L)
    (body : ∀ Γ : GX, Ok0 b y.cls ret (rmK l c s) Γ → Rt post c s Γ → (gMt Γ).name = y.name → (gD Γ).2.2.1 = de → V Γ 0 0 hp 0 L []) : CtE de y b nL ret (rmK l c s) As hp post := by
  intro D hD l0 sz
  refine Met.ofW (cc := b) (maxL := nL) (ret := ret) hy rfl ?_
  intro p e s0 m args below meth cd s₁ B hml hv
  obtain ⟨rfl, hsz, hP, hE⟩ := hv
  subst hsz
  have hts := atoms_spec (ws := ws_ y b nL ret) B.pre
  have hts : ∀ w ∈ lw_all, w.before As.toArray s0 = true := fun w h => hts w (List.mem_cons_of_mem _ h)
  rw [lg_entry_eq]
  exact body (p, l0, e, rmK l c s, s0, m, As.toArray, below, meth, cd, D, AA hp s0.heap.size, nL, MQ below (QG D post (AA hp s0.heap.size)) As.toArray s0 (rmK l c s).cells (rmK l c s).slots (AA hp s0.heap.size))
    ⟨B.exec, B.bytes, hml, B.returns, findClass_of_methodNamed B.named, hts, hE, fun q h => Or.inr h, B.notSynchronized, rfl⟩ rfl (name_of_methodNamed B.named B.method).1 hD s0.heap [] _ hP (fun a h => Or.inl h) va_S.rf hL.lh
end CT
theorem lvK {l l' c c' s s' n : Nat} (h : l + 1 ≤ l' ∧ n ≤ 41) : (rmK l c s).frames + 1 ≤ (rmK l' c' s').frames ∧ 8 + (n + 11) + (rmK l c s).locals ≤ (rmK l' c' s').locals := by
  show l + 1 ≤ l' ∧ 8 + (n + 11) + 60 * l ≤ 60 * l'
  omega
section VCALLC
variable {Γ : GX} {k n : Nat} {hp : AH} {pc n' : Nat} {L : List (Option Value)} {st : List Value} {cc : ByteArray} {own : String} {ret : Option FieldType} {l l' c c' s s' : Nat}
  {y : MethodName} {b : ByteArray} {nL2 : Nat} {ret2 : Option FieldType} {As : List Value} {post : Option Value → AH → Prop} {i : Nat}
theorem vc_callS (h : Ok0 cc own ret (rmK l' c' s') Γ) (hM : CtD (gD Γ) y b nL2 ret2 (rmK l c s) As hp post) (hw : GoodIn lw_all (va_wsS own i y (ws_ y b nL2 ret2)))
    (hd : y.cls ≠ "java/lang/invoke/MethodHandle" ∧ y.cls ≠ "java/lang/invoke/VarHandle" ∧ (parseMethodDescriptor y.desc).map (fun d => d.parameters.length) = some As.length) (hR : l + 1 ≤ l' ∧ nL2 ≤ 41) (hf : k + c ≤ c' ∧ n + s ≤ s') (hst : (st.map fun v => v.category).sum ≤ 8) (d : decode cc pc = .ok (.invokestatic i, 3)) (hn : pc + 3 = n')
    (kk : ∀ r hp', post r hp' → V Γ (k + c) (n + s) hp' n' L (r.toList ++ st)) {st0 : List Value} (hs0 : st0 = As.reverse ++ st) : V Γ k n hp pc L st0 := fun H locs ls a1 a2 a3 a4 => by
  subst hn
  have hsub : ∀ q e, hp q = some e → hp q = some e := fun _ _ e => e
  have hR := lvK (c := c) (s := s) (c' := c') (s' := s') hR
  have hRR := h.2.2.2.2.2.2.2.2.2
  exact v_goes rfl h.2.2.2.2.2.2.2.1 (va_runS (nL := gN Γ) (Ts := lw_all) ⟨h.1, h.2.1, h.2.2.1, h.2.2.2.2.1, h.2.2.2.2.2.1⟩ (hM (gL Γ) H.size) (va_cwS As.length h.2.2.2.2.2.1 hw rfl rfl rfl hd (by rw [hRR]; exact hR)) (v_pre h hsub a1 a2 a3) rfl rfl a4.2.1 hs0 (lv_room hst) d (by rw [hRR]; exact hf)) hsub a1 a2 a3 a4 (fun r hp' q => by rw [mrg_self]; exact kk r hp' q)
theorem vc_callV (h : Ok0 cc own ret (rmK l' c' s') Γ) {a ci N : Nat} {T : u_T} {fs : List Value} (hM : CtD (gD Γ) y b nL2 ret2 (rmK l c s) (.ref a :: As) hp post) (hc : CL[ci]? = some (y.cls, T, N)) (he : hp a = some (.inr (ci, fs))) (hw : GoodIn lw_all (wsV own i y.cls y (ws_ y b nL2 ret2)))
    (hd : y.cls ≠ "java/lang/invoke/MethodHandle" ∧ y.cls ≠ "java/lang/invoke/VarHandle" ∧ (parseMethodDescriptor y.desc).map (fun d => d.parameters.length) = some As.length) (hR : l + 1 ≤ l' ∧ nL2 ≤ 41) (hf : k + c ≤ c' ∧ n + s ≤ s') (hst : (st.map fun v => v.category).sum ≤ 8) (d : decode cc pc = .ok (.invokevirtual i, 3)) (hn : pc + 3 = n')
    (kk : ∀ r hp', post r hp' → V Γ (k + c) (n + s) hp' n' L (r.toList ++ st)) {st0 : List Value} (hs0 : st0 = As.reverse ++ .ref a :: st) : V Γ k n hp pc L st0 := fun H locs ls a1 a2 a3 a4 => by
  subst hn
  have hsub : ∀ q e, hp q = some e → hp q = some e := fun _ _ e => e
  have hR := lvK (c := c) (s := s) (c' := c') (s' := s') hR
  have hRR := h.2.2.2.2.2.2.2.2.2
  have hpre := v_pre (As := .ref a :: As) h hsub a1 a2 a3
  exact v_goes rfl h.2.2.2.2.2.2.2.1 (va_runV (nL := gN Γ) (Ts := lw_all) ⟨h.1, h.2.1, h.2.2.1, h.2.2.2.2.1, h.2.2.2.2.2.1⟩ (hM (gL Γ) H.size) (cwV As.length h.2.2.2.2.2.1 hw rfl rfl rfl ⟨rfl, hd⟩ (by rw [hRR]; exact hR)) ⟨hpre.1, v_recv h a1 hc he, hpre.2⟩ rfl rfl a4.2.1 hs0 (lv_room hst) d (by rw [hRR]; exact hf)) hsub a1 a2 a3 a4 (fun r hp' q => by rw [mrg_self]; exact kk r hp' q)
theorem vc_callI (h : Ok0 cc own ret (rmK l' c' s') Γ) {a : Nat} (hM : CtD (gD Γ) y b nL2 none (rmK l c s) (.ref a :: As) hp post) (hcode : Cond.code y b nL2 none ∈ lw_all) (hini : Cond.initialized y.cls ∈ lw_all) (hl : Cond.methodLink own i y ∈ lw_all) (hinst : Cond.instanceMethod y ∈ lw_all) (hnm : y.name = "<init>")
    (hd : y.cls ≠ "java/lang/invoke/MethodHandle" ∧ y.cls ≠ "java/lang/invoke/VarHandle" ∧ (parseMethodDescriptor y.desc).map (fun d => d.parameters.length) = some As.length) (hR : l + 1 ≤ l' ∧ nL2 ≤ 41) (hf : k + c ≤ c' ∧ n + s ≤ s') (hst : (st.map fun v => v.category).sum ≤ 8) (d : decode cc pc = .ok (.invokespecial i, 3)) (hn : pc + 3 = n')
    (kk : ∀ r hp', post r hp' → V Γ (k + c) (n + s) hp' n' L (r.toList ++ st)) {st0 : List Value} (hs0 : st0 = As.reverse ++ .ref a :: st) : V Γ k n hp pc L st0 := fun H locs ls a1 a2 a3 a4 => by
  subst hn
  have hsub : ∀ q e, hp q = some e → hp q = some e := fun _ _ e => e
  have hR := lvK (c := c) (s := s) (c' := c') (s' := s') hR
  have hRR := h.2.2.2.2.2.2.2.2.2
  have hts := h.2.2.2.2.2.1
  exact v_goes rfl h.2.2.2.2.2.2.2.1 (va_runI (nL := gN Γ) (Ts := lw_all) ⟨h.1, h.2.1, h.2.2.1, h.2.2.2.2.1, hts⟩ (hM (gL Γ) H.size) (cwI As.length hts (lw_meth hcode) rfl rfl rfl (hts _ hini) (hts _ hl) (hts _ hinst) hnm hd (by rw [hRR]; exact hR)) (v_pre h hsub a1 a2 a3) rfl rfl a4.2.1 hs0 (lv_room hst) d (by rw [hRR]; exact hf)) hsub a1 a2 a3 a4 (fun r hp' q => by rw [mrg_self]; exact kk r hp' q)
theorem vc_callSN (h : Ok0 cc own ret (rmK l' c' s') Γ) {host : String} (hM : CtD (gD Γ) y b nL2 ret2 (rmK l c s) As hp post) (hcode : Cond.code y b nL2 ret2 ∈ lw_all) (hini : Cond.initialized y.cls ∈ lw_all) (hl : Cond.methodLinkNest own i y host ∈ lw_tbl) (hstat : Cond.static y ∈ lw_all)
    (hd : y.cls ≠ "java/lang/invoke/MethodHandle" ∧ y.cls ≠ "java/lang/invoke/VarHandle" ∧ (parseMethodDescriptor y.desc).map (fun d => d.parameters.length) = some As.length) (hR : l + 1 ≤ l' ∧ nL2 ≤ 41) (hf : k + c ≤ c' ∧ n + s ≤ s') (hst : (st.map fun v => v.category).sum ≤ 8) (d : decode cc pc = .ok (.invokestatic i, 3)) (hn : pc + 3 = n')
    (kk : ∀ r hp', post r hp' → V Γ (k + c) (n + s) hp' n' L (r.toList ++ st)) {st0 : List Value} (hs0 : st0 = As.reverse ++ st) : V Γ k n hp pc L st0 := fun H locs ls a1 a2 a3 a4 => by
  subst hn
  have hsub : ∀ q e, hp q = some e → hp q = some e := fun _ _ e => e
  have hR := lvK (c := c) (s := s) (c' := c') (s' := s') hR
  have hRR := h.2.2.2.2.2.2.2.2.2
  have hts := h.2.2.2.2.2.1
  exact v_goes rfl h.2.2.2.2.2.2.2.1 (va_runSN (nL := gN Γ) (Ts := lw_all) ⟨h.1, h.2.1, h.2.2.1, h.2.2.2.2.1, hts⟩ (hM (gL Γ) H.size) ⟨va_cnB As.length hts (lw_meth hcode) rfl rfl rfl (h.2.2.2.2.2.2.1.2.1 _ hl rfl) (hts _ hini) hd (by rw [hRR]; exact hR), hts _ hstat, trivial⟩ (v_pre h hsub a1 a2 a3) rfl rfl a4.2.1 hs0 (lv_room hst) d (by rw [hRR]; exact hf)) hsub a1 a2 a3 a4 (fun r hp' q => by rw [mrg_self]; exact kk r hp' q)
theorem vc_callVN (h : Ok0 cc own ret (rmK l' c' s') Γ) {host : String} {a ci N : Nat} {T : u_T} {fs : List Value} (hM : CtD (gD Γ) y b nL2 ret2 (rmK l c s) (.ref a :: As) hp post) (hc : CL[ci]? = some (y.cls, T, N)) (he : hp a = some (.inr (ci, fs))) (hcode : Cond.code y b nL2 ret2 ∈ lw_all) (hini : Cond.initialized y.cls ∈ lw_all) (hl : Cond.methodLinkNest own i y host ∈ lw_tbl) (hinst : Cond.instanceMethod y ∈ lw_all) (hsel : Cond.selects y.cls y y ∈ lw_all)
    (hd : y.cls ≠ "java/lang/invoke/MethodHandle" ∧ y.cls ≠ "java/lang/invoke/VarHandle" ∧ (parseMethodDescriptor y.desc).map (fun d => d.parameters.length) = some As.length) (hR : l + 1 ≤ l' ∧ nL2 ≤ 41) (hf : k + c ≤ c' ∧ n + s ≤ s') (hst : (st.map fun v => v.category).sum ≤ 8) (d : decode cc pc = .ok (.invokevirtual i, 3)) (hn : pc + 3 = n')
    (kk : ∀ r hp', post r hp' → V Γ (k + c) (n + s) hp' n' L (r.toList ++ st)) {st0 : List Value} (hs0 : st0 = As.reverse ++ .ref a :: st) : V Γ k n hp pc L st0 := fun H locs ls a1 a2 a3 a4 => by
  subst hn
  have hsub : ∀ q e, hp q = some e → hp q = some e := fun _ _ e => e
  have hR := lvK (c := c) (s := s) (c' := c') (s' := s') hR
  have hRR := h.2.2.2.2.2.2.2.2.2
  have hts := h.2.2.2.2.2.1
  have hpre := v_pre (As := .ref a :: As) h hsub a1 a2 a3
  exact v_goes rfl h.2.2.2.2.2.2.2.1 (va_runVN (nL := gN Γ) (Ts := lw_all) ⟨h.1, h.2.1, h.2.2.1, h.2.2.2.2.1, hts⟩ (hM (gL Γ) H.size) ⟨va_cnB As.length hts (lw_meth hcode) rfl rfl rfl (h.2.2.2.2.2.2.1.2.1 _ hl rfl) (hts _ hini) hd (by rw [hRR]; exact hR), hts _ hinst, hts _ hsel⟩ ⟨hpre.1, v_recv h a1 hc he, hpre.2⟩ rfl rfl a4.2.1 hs0 (lv_room hst) d (by rw [hRR]; exact hf)) hsub a1 a2 a3 a4 (fun r hp' q => by rw [mrg_self]; exact kk r hp' q)
theorem vc_callIN (h : Ok0 cc own ret (rmK l' c' s') Γ) {host : String} {a : Nat} (hM : CtD (gD Γ) y b nL2 none (rmK l c s) (.ref a :: As) hp post) (hcode : Cond.code y b nL2 none ∈ lw_all) (hini : Cond.initialized y.cls ∈ lw_all) (hl : Cond.methodLinkNest own i y host ∈ lw_tbl) (hinst : Cond.instanceMethod y ∈ lw_all) (hnm : y.name = "<init>")
    (hd : y.cls ≠ "java/lang/invoke/MethodHandle" ∧ y.cls ≠ "java/lang/invoke/VarHandle" ∧ (parseMethodDescriptor y.desc).map (fun d => d.parameters.length) = some As.length) (hR : l + 1 ≤ l' ∧ nL2 ≤ 41) (hf : k + c ≤ c' ∧ n + s ≤ s') (hst : (st.map fun v => v.category).sum ≤ 8) (d : decode cc pc = .ok (.invokespecial i, 3)) (hn : pc + 3 = n')
    (kk : ∀ r hp', post r hp' → V Γ (k + c) (n + s) hp' n' L (r.toList ++ st)) {st0 : List Value} (hs0 : st0 = As.reverse ++ .ref a :: st) : V Γ k n hp pc L st0 := fun H locs ls a1 a2 a3 a4 => by
  subst hn
  have hsub : ∀ q e, hp q = some e → hp q = some e := fun _ _ e => e
  have hR := lvK (c := c) (s := s) (c' := c') (s' := s') hR
  have hRR := h.2.2.2.2.2.2.2.2.2
  have hts := h.2.2.2.2.2.1
  exact v_goes rfl h.2.2.2.2.2.2.2.1 (va_runIN (nL := gN Γ) (Ts := lw_all) ⟨h.1, h.2.1, h.2.2.1, h.2.2.2.2.1, hts⟩ (hM (gL Γ) H.size) ⟨va_cnB As.length hts (lw_meth hcode) rfl rfl rfl (h.2.2.2.2.2.2.1.2.1 _ hl rfl) (hts _ hini) hd (by rw [hRR]; exact hR), hnm, hts _ hinst⟩ (v_pre h hsub a1 a2 a3) rfl rfl a4.2.1 hs0 (lv_room hst) d (by rw [hRR]; exact hf)) hsub a1 a2 a3 a4 (fun r hp' q => by rw [mrg_self]; exact kk r hp' q)
theorem vc_callU (h : Ok0 cc own ret (rmK l' c' s') Γ) {a ci N : Nat} {T : u_T} {fs : List Value} {C owner : String} {x : MethodName} (hM : CtD (gD Γ) y b nL2 ret2 (rmK l c s) (.ref a :: As) hp post) (hc : CL[ci]? = some (C, T, N)) (he : hp a = some (.inr (ci, fs)))
    (hcw : ∀ (S : State) (ar : Array Value), (∀ w ∈ lw_all, w.before ar S = true) → va_CU (rmK l' c' s') S ar own C owner i x y b nL2 ret2 (ws_ y b nL2 ret2) (rmK l c s) c s As.length)
    (hf : k + c ≤ c' ∧ n + s ≤ s') (hst : (st.map fun v => v.category).sum ≤ 8) (d : decode cc pc = .ok (.invokevirtual i, 3)) (hn : pc + 3 = n')
    (kk : ∀ r hp', post r hp' → V Γ (k + c) (n + s) hp' n' L (r.toList ++ st)) {st0 : List Value} (hs0 : st0 = As.reverse ++ .ref a :: st) : V Γ k n hp pc L st0 := fun H locs ls a1 a2 a3 a4 => by
  subst hn
  have hsub : ∀ q e, hp q = some e → hp q = some e := fun _ _ e => e
  have hRR := h.2.2.2.2.2.2.2.2.2
  have hpre := v_pre (As := .ref a :: As) h hsub a1 a2 a3
  have hcw := hcw (gS Γ) (gArgs Γ) h.2.2.2.2.2.1
  rw [← hRR] at hcw
  exact v_goes rfl h.2.2.2.2.2.2.2.1 (va_runU (nL := gN Γ) (Ts := lw_all) ⟨h.1, h.2.1, h.2.2.1, h.2.2.2.2.1, h.2.2.2.2.2.1⟩ (hM (gL Γ) H.size) hcw ⟨hpre.1, v_recv h a1 hc he, hpre.2⟩ rfl rfl a4.2.1 hs0 (lv_room hst) d (by rw [hRR]; exact hf)) hsub a1 a2 a3 a4 (fun r hp' q => by rw [mrg_self]; exact kk r hp' q)
theorem vc_callSU (h : Ok0 cc own ret (rmK l' c' s') Γ) {a ci N : Nat} {T : u_T} {fs : List Value} {C : String} (hM : CtD (gD Γ) y b nL2 ret2 (rmK l c s) (.ref a :: As) hp post) (hc : CL[ci]? = some (C, T, N)) (he : hp a = some (.inr (ci, fs)))
    (hw : GoodIn lw_all (va_wsSU own i y (ws_ y b nL2 ret2))) (hd : y.name ≠ "<init>" ∧ (parseMethodDescriptor y.desc).map (fun d => d.parameters.length) = some As.length) (hR : l + 1 ≤ l' ∧ nL2 ≤ 41)
    (hf : k + c ≤ c' ∧ n + s ≤ s') (hst : (st.map fun v => v.category).sum ≤ 8) (d : decode cc pc = .ok (.invokespecial i, 3)) (hn : pc + 3 = n')
    (kk : ∀ r hp', post r hp' → V Γ (k + c) (n + s) hp' n' L (r.toList ++ st)) {st0 : List Value} (hs0 : st0 = As.reverse ++ .ref a :: st) : V Γ k n hp pc L st0 := fun H locs ls a1 a2 a3 a4 => by
  subst hn
  have hsub : ∀ q e, hp q = some e → hp q = some e := fun _ _ e => e
  have hR := lvK (c := c) (s := s) (c' := c') (s' := s') hR
  have hRR := h.2.2.2.2.2.2.2.2.2
  have hpre := v_pre (As := .ref a :: As) h hsub a1 a2 a3
  have hat := (h.2.2.2.2.2.2.1.1.1 ci _ hc).2
  exact v_goes rfl h.2.2.2.2.2.2.2.1 (va_runSU (nL := gN Γ) (Ts := lw_all) hat ⟨h.1, h.2.1, h.2.2.1, h.2.2.2.2.1, h.2.2.2.2.2.1⟩ (hM (gL Γ) H.size) (va_cwSU As.length h.2.2.2.2.2.1 hw rfl rfl rfl hd (by rw [hRR]; exact hR)) ⟨hpre.1, v_recv h a1 hc he, hpre.2⟩ rfl rfl a4.2.1 hs0 (lv_room hst) d (by rw [hRR]; exact hf)) hsub a1 a2 a3 a4 (fun r hp' q => by rw [mrg_self]; exact kk r hp' q)
theorem eI {post : Int → AH → Prop} {k n : Nat} (kk : ∀ z hp', post z hp' → V Γ k n hp' n' L (.int (iI z) :: st)) : ∀ r hp', rI post r hp' → V Γ k n hp' n' L (r.toList ++ st) := by
  rintro r hp' ⟨z, rfl, h⟩
  exact kk z hp' h
theorem eJ {post : Int → AH → Prop} {k n : Nat} (kk : ∀ z hp', post z hp' → V Γ k n hp' n' L (.long (lI z) :: st)) : ∀ r hp', rJ post r hp' → V Γ k n hp' n' L (r.toList ++ st) := by
  rintro r hp' ⟨z, rfl, h⟩
  exact kk z hp' h
theorem eV {post : AH → Prop} {k n : Nat} (kk : ∀ hp', post hp' → V Γ k n hp' n' L st) : ∀ r hp', rV post r hp' → V Γ k n hp' n' L (r.toList ++ st) := by
  rintro r hp' ⟨rfl, h⟩
  exact kk hp' h
theorem eQ {post : Option Nat → AH → Prop} {k n : Nat} (kk : ∀ z hp', post z hp' → V Γ k n hp' n' L (va_rf z :: st)) : ∀ r hp', rQ post r hp' → V Γ k n hp' n' L (r.toList ++ st) := by
  rintro r hp' ⟨z, rfl, h⟩
  exact kk z hp' h
theorem eR {post : Nat → AH → Prop} {k n : Nat} (kk : ∀ z hp', post z hp' → V Γ k n hp' n' L (.ref z :: st)) : ∀ r hp', rR post r hp' → V Γ k n hp' n' L (r.toList ++ st) := by
  rintro r hp' ⟨z, rfl, h⟩
  exact kk z hp' h
end VCALLC
theorem ret_q {o : Option Nat} {hp : AH} {post : Option Nat → AH → Prop} (h : post o hp) : rQ post (some (va_rf o)) hp := ⟨o, rfl, h⟩
theorem ret_r {o : Nat} {hp : AH} {post : Nat → AH → Prop} (h : post o hp) : rR post (some (.ref o)) hp := ⟨o, rfl, h⟩
theorem ret_qs {o : Nat} {hp : AH} {post : Option Nat → AH → Prop} (h : post (some o) hp) : rQ post (some (.ref o)) hp := ⟨some o, rfl, h⟩
theorem ret_qn {hp : AH} {post : Option Nat → AH → Prop} (h : post none hp) : rQ post (some .null) hp := ⟨none, rfl, h⟩
theorem rf_or (o : Option Nat) : va_rf o = .null ∨ ∃ a, va_rf o = .ref a := by
  cases o with
  | none => exact Or.inl rfl
  | some a => exact Or.inr ⟨a, rfl⟩
theorem nr_rf (C : String) (o : Option Nat) : narrow (.object C) (va_rf o) = va_rf o := by cases o <;> rfl
theorem ft_rf (C : String) (o : Option Nat) : fits (.object C) (va_rf o) = true := by cases o <;> rfl
theorem upH_up {hp : AH} {a : Nat} {e e' : va_E} : upH (upH hp a e) a e' = upH hp a e' := by
  funext q
  unfold upH
  by_cases c : q = a
  · rw [if_pos c, if_pos c]
  · rw [if_neg c, if_neg c, if_neg c]
/-! entries: an object of one of five classes -/
abbrev eO (kd : Nat) (k v : Int) (l r : Option Nat) : va_E := .inr (5 + kd, [.int (iI k), .int (iI v), va_rf l, va_rf r])
theorem TX6_5 : ∀ f, f < 4 → TX6 f = TX5 f := by decide
theorem TX7_5 : ∀ f, f < 4 → TX7 f = TX5 f := by decide
theorem TX8_5 : ∀ f, f < 4 → TX8 f = TX5 f := by decide
theorem TX9_5 : ∀ f, f < 4 → TX9 f = TX5 f := by decide
theorem tyX6_5 : ∀ f, f < 4 → tyX6 f = tyX5 f := by decide
theorem tyX7_5 : ∀ f, f < 4 → tyX7 f = tyX5 f := by decide
theorem tyX8_5 : ∀ f, f < 4 → tyX8 f = tyX5 f := by decide
theorem tyX9_5 : ∀ f, f < 4 → tyX9 f = tyX5 f := by decide
theorem TX5_1 : ∀ f, f < 4 → RX5 = (TX5 f).1 := by decide
theorem TX5_f : ∀ f, f < 4 → (TX5 f).2.2.2 = false := by decide
section VE
variable {Γ : GX} {k n : Nat} {hp : AH} {pc n' : Nat} {L : List (Option Value)} {st : List Value} {cc : ByteArray} {own : String} {ret : Option FieldType} {R : Room}
theorem v_getE (h : Ok0 cc own ret R Γ) {kd i a : Nat} (hkd : kd < 5) {fs : List Value} {v : Value} (f : Nat) (hf : f < 4) (hw : Cond.fieldLink own i RX5 (TX5 f).2.1 (TX5 f).2.2.1 ∈ lw_all) (d : decode cc pc = .ok (.getfield i, 3)) (hn : pc + 3 = n') (he : hp a = some (.inr (5 + kd, fs))) (hv : fs[f]? = some v) (kk : V Γ k n hp n' L (v :: st)) : V Γ k n hp pc L (.ref a :: st) := by
  match kd, hkd with
  | 0, _ => exact v_get (ci := 5) h rfl in_X5 f hf hw (TX5_1 f hf) d hn he hv kk
  | 1, _ => exact v_get (ci := 6) h rfl in_X6 f hf (by rw [TX6_5 f hf]; exact hw) (by rw [TX6_5 f hf]; exact TX5_1 f hf) d hn he hv kk
  | 2, _ => exact v_get (ci := 7) h rfl in_X7 f hf (by rw [TX7_5 f hf]; exact hw) (by rw [TX7_5 f hf]; exact TX5_1 f hf) d hn he hv kk
  | 3, _ => exact v_get (ci := 8) h rfl in_X8 f hf (by rw [TX8_5 f hf]; exact hw) (by rw [TX8_5 f hf]; exact TX5_1 f hf) d hn he hv kk
  | 4, _ => exact v_get (ci := 9) h rfl in_X9 f hf (by rw [TX9_5 f hf]; exact hw) (by rw [TX9_5 f hf]; exact TX5_1 f hf) d hn he hv kk
theorem v_putE (h : Ok0 cc own ret R Γ) {kd i a : Nat} (hkd : kd < 5) {fs : List Value} {v : Value} (f : Nat) (hf : f < 4) (hw : Cond.fieldLink own i RX5 (TX5 f).2.1 (TX5 f).2.2.1 ∈ lw_all) (d : decode cc pc = .ok (.putfield i, 3)) (hn : pc + 3 = n') (he : hp a = some (.inr (5 + kd, fs))) (hl : f < fs.length) (hnr : narrow (tyX5 f) v = v) (hfit : fits (tyX5 f) v = true) (kk : V Γ k n (upH hp a (.inr (5 + kd, fs.set f v))) n' L st) : V Γ k n hp pc L (v :: .ref a :: st) := by
  match kd, hkd with
  | 0, _ => exact v_put (ci := 5) h rfl in_X5 tyX5 tyX5_ok nmX5 f hf hw (TX5_1 f hf) (TX5_f f hf) d hn he hl hnr hfit kk
  | 1, _ => exact v_put (ci := 6) h rfl in_X6 tyX6 tyX6_ok nmX6 f hf (by rw [TX6_5 f hf]; exact hw) (by rw [TX6_5 f hf]; exact TX5_1 f hf) (by rw [TX6_5 f hf]; exact TX5_f f hf) d hn he hl (by rw [tyX6_5 f hf]; exact hnr) (by rw [tyX6_5 f hf]; exact hfit) kk
  | 2, _ => exact v_put (ci := 7) h rfl in_X7 tyX7 tyX7_ok nmX7 f hf (by rw [TX7_5 f hf]; exact hw) (by rw [TX7_5 f hf]; exact TX5_1 f hf) (by rw [TX7_5 f hf]; exact TX5_f f hf) d hn he hl (by rw [tyX7_5 f hf]; exact hnr) (by rw [tyX7_5 f hf]; exact hfit) kk
  | 3, _ => exact v_put (ci := 8) h rfl in_X8 tyX8 tyX8_ok nmX8 f hf (by rw [TX8_5 f hf]; exact hw) (by rw [TX8_5 f hf]; exact TX5_1 f hf) (by rw [TX8_5 f hf]; exact TX5_f f hf) d hn he hl (by rw [tyX8_5 f hf]; exact hnr) (by rw [tyX8_5 f hf]; exact hfit) kk
  | 4, _ => exact v_put (ci := 9) h rfl in_X9 tyX9 tyX9_ok nmX9 f hf (by rw [TX9_5 f hf]; exact hw) (by rw [TX9_5 f hf]; exact TX5_1 f hf) (by rw [TX9_5 f hf]; exact TX5_f f hf) d hn he hl (by rw [tyX9_5 f hf]; exact hnr) (by rw [tyX9_5 f hf]; exact hfit) kk
theorem v_ekey (h : Ok0 cc own ret R Γ) {kd i a : Nat} {x v : Int} {l r : Option Nat} (hw : Cond.fieldLink own i RX5 (TX5 0).2.1 (TX5 0).2.2.1 ∈ lw_all) (d : decode cc pc = .ok (.getfield i, 3)) (hn : pc + 3 = n') (he : hp a = some (eO kd x v l r)) (hkd : kd < 5) (kk : V Γ k n hp n' L (.int (iI x) :: st)) : V Γ k n hp pc L (.ref a :: st) := v_getE h hkd 0 (by decide) hw d hn he rfl kk
theorem v_eval (h : Ok0 cc own ret R Γ) {kd i a : Nat} {x v : Int} {l r : Option Nat} (hw : Cond.fieldLink own i RX5 (TX5 1).2.1 (TX5 1).2.2.1 ∈ lw_all) (d : decode cc pc = .ok (.getfield i, 3)) (hn : pc + 3 = n') (he : hp a = some (eO kd x v l r)) (hkd : kd < 5) (kk : V Γ k n hp n' L (.int (iI v) :: st)) : V Γ k n hp pc L (.ref a :: st) := v_getE h hkd 1 (by decide) hw d hn he rfl kk
theorem v_eleft (h : Ok0 cc own ret R Γ) {kd i a : Nat} {x v : Int} {l r : Option Nat} (hw : Cond.fieldLink own i RX5 (TX5 2).2.1 (TX5 2).2.2.1 ∈ lw_all) (d : decode cc pc = .ok (.getfield i, 3)) (hn : pc + 3 = n') (he : hp a = some (eO kd x v l r)) (hkd : kd < 5) (kk : V Γ k n hp n' L (va_rf l :: st)) : V Γ k n hp pc L (.ref a :: st) := v_getE h hkd 2 (by decide) hw d hn he rfl kk
theorem v_eright (h : Ok0 cc own ret R Γ) {kd i a : Nat} {x v : Int} {l r : Option Nat} (hw : Cond.fieldLink own i RX5 (TX5 3).2.1 (TX5 3).2.2.1 ∈ lw_all) (d : decode cc pc = .ok (.getfield i, 3)) (hn : pc + 3 = n') (he : hp a = some (eO kd x v l r)) (hkd : kd < 5) (kk : V Γ k n hp n' L (va_rf r :: st)) : V Γ k n hp pc L (.ref a :: st) := v_getE h hkd 3 (by decide) hw d hn he rfl kk
theorem v_pkey (h : Ok0 cc own ret R Γ) {kd i a : Nat} {x v z : Int} {l r : Option Nat} (hw : Cond.fieldLink own i RX5 (TX5 0).2.1 (TX5 0).2.2.1 ∈ lw_all) (d : decode cc pc = .ok (.putfield i, 3)) (hn : pc + 3 = n') (he : hp a = some (eO kd x v l r)) (hkd : kd < 5) (kk : V Γ k n (upH hp a (eO kd z v l r)) n' L st) : V Γ k n hp pc L (.int (iI z) :: .ref a :: st) := v_putE h hkd 0 (by decide) hw d hn he (show 0 < 4 by decide) rfl rfl kk
theorem v_pval (h : Ok0 cc own ret R Γ) {kd i a : Nat} {x v z : Int} {l r : Option Nat} (hw : Cond.fieldLink own i RX5 (TX5 1).2.1 (TX5 1).2.2.1 ∈ lw_all) (d : decode cc pc = .ok (.putfield i, 3)) (hn : pc + 3 = n') (he : hp a = some (eO kd x v l r)) (hkd : kd < 5) (kk : V Γ k n (upH hp a (eO kd x z l r)) n' L st) : V Γ k n hp pc L (.int (iI z) :: .ref a :: st) := v_putE h hkd 1 (by decide) hw d hn he (show 1 < 4 by decide) rfl rfl kk
theorem v_pleft (h : Ok0 cc own ret R Γ) {kd i a : Nat} {x v : Int} {l r z : Option Nat} (hw : Cond.fieldLink own i RX5 (TX5 2).2.1 (TX5 2).2.2.1 ∈ lw_all) (d : decode cc pc = .ok (.putfield i, 3)) (hn : pc + 3 = n') (he : hp a = some (eO kd x v l r)) (hkd : kd < 5) (kk : V Γ k n (upH hp a (eO kd x v z r)) n' L st) : V Γ k n hp pc L (va_rf z :: .ref a :: st) := v_putE h hkd 2 (by decide) hw d hn he (show 2 < 4 by decide) (nr_rf _ z) (ft_rf _ z) kk
theorem v_pright (h : Ok0 cc own ret R Γ) {kd i a : Nat} {x v : Int} {l r z : Option Nat} (hw : Cond.fieldLink own i RX5 (TX5 3).2.1 (TX5 3).2.2.1 ∈ lw_all) (d : decode cc pc = .ok (.putfield i, 3)) (hn : pc + 3 = n') (he : hp a = some (eO kd x v l r)) (hkd : kd < 5) (kk : V Γ k n (upH hp a (eO kd x v l z)) n' L st) : V Γ k n hp pc L (va_rf z :: .ref a :: st) := v_putE h hkd 3 (by decide) hw d hn he (show 3 < 4 by decide) (nr_rf _ z) (ft_rf _ z) kk
theorem v_eclass {kd : Nat} (hkd : kd < 5) : ∃ q : vw_C, CL[5 + kd]? = some q := by
  match kd, hkd with
  | 0, _ => exact ⟨_, rfl⟩
  | 1, _ => exact ⟨_, rfl⟩
  | 2, _ => exact ⟨_, rfl⟩
  | 3, _ => exact ⟨_, rfl⟩
  | 4, _ => exact ⟨_, rfl⟩
theorem v_castE (h : Ok0 cc own ret R Γ) {kd i a : Nat} {fs : List Value} (hw : Cond.classLink own i RX5 ∈ lw_all) (d : decode cc pc = .ok (.checkcast i, 3)) (hn : pc + 3 = n') (he : hp a = some (.inr (5 + kd, fs))) (hkd : kd < 5) (kk : V Γ k n hp n' L (.ref a :: st)) : V Γ k n hp pc L (.ref a :: st) := fun H locs ls a1 a2 a3 a4 => by
  subst hn
  have q := kk H locs ls a1 a2 a3 a4
  have hts := h.2.2.2.2.2.1
  have hN := h.2.2.2.2.2.2.1.2.1
  match kd, hkd with
  | 0, _ => exact va_castS h.1 h.2.1 h.2.2.2.2.1 (hts _ hw) (h.2.2.2.2.2.2.1.1.1 5 _ rfl).2 (v_recv (ci := 5) h a1 rfl he) d q
  | 1, _ => exact va_castY h.1 h.2.1 h.2.2.2.2.1 (hts _ hw) (hN _ q1405 rfl) (v_recv (ci := 6) h a1 rfl he) d q
  | 2, _ => exact va_castY h.1 h.2.1 h.2.2.2.2.1 (hts _ hw) (hN _ q1403 rfl) (v_recv (ci := 7) h a1 rfl he) d q
  | 3, _ => exact va_castY h.1 h.2.1 h.2.2.2.2.1 (hts _ hw) (hN _ q1404 rfl) (v_recv (ci := 8) h a1 rfl he) d q
  | 4, _ => exact va_castY h.1 h.2.1 h.2.2.2.2.1 (hts _ hw) (hN _ q1406 rfl) (v_recv (ci := 9) h a1 rfl he) d q
/-- any entry may be laid into an array of objects -/
theorem any_E (h : Ok0 cc own ret R Γ) {kd a : Nat} (hkd : kd < 5) {fs : List Value} (he : hp a = some (.inr (5 + kd, fs))) {H : Heap} (a1 : HW (gD Γ) hp H) : va_Any "java/lang/Object" (gS Γ) H a := by
  have hN := h.2.2.2.2.2.2.1.2.1
  have key : ∀ {C : String}, Cond.castable C "java/lang/Object" ∈ lw_tbl → ∀ comp c0 : ClassId, (gS Γ).vm.findClass "java/lang/Object" = some comp → (gS Γ).vm.findClass C = some c0 → (gS Γ).vm.assignable c0 comp = true := by
    intro C hw comp c0 e1 e2
    obtain ⟨x, y, f1, f2, f3⟩ := Cond.castable_spec (va_Nw.use (A := gArgs Γ) rfl (hN _ hw rfl))
    cases e2.symm.trans f1
    cases e1.symm.trans f2
    exact f3
  have hK := h.2.2.2.2.2.2.1.1
  match kd, hkd with
  | 0, _ => exact va_rAny (q0 := 0) (ci := 5) hK (a1.P he) rfl rfl (key q1417)
  | 1, _ => exact va_rAny (q0 := 0) (ci := 6) hK (a1.P he) rfl rfl (key q1413)
  | 2, _ => exact va_rAny (q0 := 0) (ci := 7) hK (a1.P he) rfl rfl (key q1414)
  | 3, _ => exact va_rAny (q0 := 0) (ci := 8) hK (a1.P he) rfl rfl (key q1415)
  | 4, _ => exact va_rAny (q0 := 0) (ci := 9) hK (a1.P he) rfl rfl (key q1416)
/-! arrays of references -/
abbrev aQ (N : Nat) (f : Nat → Option Nat) : va_E := .inl (3, N, .inr (.inr (.inr (.inr f))))
theorem v_aast (h : Ok0 cc own ret R Γ) {a N kd v : Nat} {f : Nat → Option Nat} {i : Int} {fs : List Value} (hkd : kd < 5) (d : decode cc pc = .ok (.aastore, 1)) (hn : pc + 1 = n') (he : hp a = some (aQ N f)) (hv : hp v = some (.inr (5 + kd, fs))) (hi : 0 ≤ i ∧ i < N) (hi2 : i ≤ 2147483647) (kk : V Γ k n (upH hp a (aQ N (va_up f i.toNat (some v)))) n' L st) : V Γ k n hp pc L (.ref v :: .int (iI i) :: .ref a :: st) := fun H locs ls a1 a2 a3 a4 => by
  subst hn
  have hA : gA Γ a := a2 a (by rw [he]; exact fun z => by cases z)
  have hK := h.2.2.2.2.2.2.1.1
  have hin := iI_in hi hi2
  obtain ⟨cellV, g1, g3, ⟨kC, hkC⟩, hasg⟩ := any_E h hkd hv a1
  obtain ⟨kA, comp, k1, k2, k3, -⟩ := (hK.2 3 _ rfl).2
  obtain ⟨kE, hkE, -⟩ := Vm.findClass_spec k3
  refine W.aast h.1 h.2.1 (a1 a _ he) (fun q h => by cases h) (fun h => by cases h) k1 k2 rfl hkE ⟨fun q => hin (Or.inl q), by show _ < (arrV _ _ _).slots.size; rw [arrV_size]; exact Nat.not_le.mp fun q => hin (Or.inr q)⟩ g1 (fun q h => by rw [h] at g3; cases g3) hkC (hasg _ k3) rfl rfl d fun H1 e z oq => ?_
  refine kk H1 _ ls (a1.up ?_ (fun q c _ => oq q c)) (up_dom hA a2) (a3.put z oq hA) a4
  show H1[a]? = some (vp_cell _ _)
  rw [e, vp_cell_q]
  show _ = some (vp_cell _ (N, .inr (.inr (.inr (.inr (va_up f i.toNat (some v)))))))
  rw [vp_cell_q, arrV_store, iI_clamp ⟨hi.1, hi2⟩]
  congr 2
  funext q
  by_cases hq : q = i.toNat
  · subst hq
    simp [updV, va_up, va_rf]
  · simp [updV, va_up, hq]
theorem v_anew (h : Ok0 cc own ret R Γ) {ix : Nat} {i : Int} (hw : Cond.classLink own ix "java/lang/Object" ∈ lw_all) (d : decode cc pc = .ok (.anewarray ix, 3)) (hn : pc + 3 = n') (hi : 0 ≤ i ∧ i ≤ 1000) (hk : k + 1 ≤ R.cells) (hs : n + i.toNat ≤ R.slots)
    (kk : ∀ a : Nat, hp a = none → V Γ (k + 1) (n + i.toNat) (upH hp a (aQ i.toNat (fun _ => none))) n' L (.ref a :: st)) : V Γ k n hp pc L (.int (iI i) :: st) := fun H locs ls a1 a2 a3 a4 => by
  subst hn
  have hK := h.2.2.2.2.2.2.1.1
  have hR := h.2.2.2.2.2.2.2.2.2
  refine W.anew h.1 h.2.1 h.2.2.2.2.1 (h.2.2.2.2.2.1 _ hw) (va_AO.use h.2.2.2.2.2.2.1.2.2.1) rfl d rfl (by rw [← iI_0, iI_lt (by omega) (by omega)]; omega) (by rw [iI_clamp (by omega)]; omega) (by rw [hR]; exact hk) (by rw [hR, iI_clamp (by omega)]; exact hs) fun cA kA comp f1 f2 f3 f4 => ?_
  rw [iI_clamp (by omega)]
  generalize hH1 : H.push ({ cls := cA, slots := Array.replicate i.toNat .null, vm := .none } : Cell) = H1
  have z1 : H1.size = H.size + 1 := by rw [← hH1, Array.size_push]
  have e1 : H1[H.size]? = some (arrV cA i.toNat (fun _ => .null)) := by rw [← hH1, Array.getElem?_push_size, ← arrV_new]
  have o1 : ∀ q : Nat, q < H.size → H1[q]? = H[q]? := fun q hq => by rw [← hH1, Array.getElem?_push, if_neg (Nat.ne_of_lt hq)]
  obtain ⟨-, -, -, -, -, h4⟩ := (hK.2 3 _ rfl).2
  have hc : (gD Γ).2.1 3 = cA := Option.some.inj (h4.symm.trans f1)
  obtain ⟨b1, b2⟩ := new_dom (e := aQ i.toNat (fun _ => none)) a1 rfl (by
    show H1[H.size]? = some (vp_cell ((gD Γ).2.1 3) _)
    rw [hc, vp_cell_q]
    exact e1) o1
  have hA : gA Γ H.size := h.2.2.2.2.2.2.2.1 _ a3.1
  exact kk H.size b2 H1 locs ls b1 (up_dom hA a2) ⟨Nat.le_trans a3.1 (by omega), fun x h1 h2 => (o1 x (Nat.lt_of_lt_of_le h1 a3.1)).trans (a3.2.1 x h1 h2), a3.2.2⟩ a4
/-- the empty list's own array -/
theorem v_getsD (h : Ok0 cc own ret R Γ) {i : Nat} (hw : Cond.fieldLink own i "java/util/ArrayList" "DEFAULTCAPACITY_EMPTY_ELEMENTDATA" "[Ljava/lang/Object;" ∈ lw_all) (d : decode cc pc = .ok (.getstatic i, 3)) (hn : pc + 3 = n') {de : Nat} (hde : (gD Γ).2.2.1 = de) (kk : V Γ k n hp n' L (.ref de :: st)) : V Γ k n hp pc L st := fun H locs ls a1 a2 a3 a4 => by
  subst hn hde
  exact va_gets h.1 h.2.1 h.2.2.2.2.2.2.1.2.2.2.2.2.1 a3 h.2.2.2.2.1 (h.2.2.2.2.2.1 _ hw) (fun x hx => hx) d (kk H locs ls a1 a2 a3 a4)
theorem v_alenD (h : Ok0 cc own ret R Γ) (d : decode cc pc = .ok (.arraylength, 1)) (hn : pc + 1 = n') {de : Nat} (hde : (gD Γ).2.2.1 = de) (kk : V Γ k n hp n' L (.int (iI 0) :: st)) : V Γ k n hp pc L (.ref de :: st) := fun H locs ls a1 a2 a3 a4 => by
  subst hn hde
  exact va_tlen h.1 h.2.1 h.2.2.2.2.2.2.1.2.2.2.2.2.2.1 a3 (v := iI 0) (by decide) d (kk H locs ls a1 a2 a3 a4)
/-- its class object -/
theorem v_ldcM (h : Ok0 cc own ret R Γ) {i : Nat} (hw : Cond.classLink own i "[Ljava/lang/Object;" ∈ lw_all) (d : decode cc pc = .ok (.ldc i, 2)) (hn : pc + 2 = n') {mi : Nat} (hmi : (gD Γ).2.2.2 = mi) (kk : V Γ k n hp n' L (.ref mi :: st)) : V Γ k n hp pc L st := fun H locs ls a1 a2 a3 a4 => by
  subst hn hmi
  exact va_ldcM h.1 h.2.1 h.2.2.2.2.1 (h.2.2.2.2.2.1 _ hw) h.2.2.2.2.2.2.1.2.2.2.2.1 d (kk H locs ls a1 a2 a3 a4)
theorem v_getC (h : Ok0 cc own ret R Γ) {i a N : Nat} {f : Nat → Option Nat} (hw : Cond.methodLink own i ⟨"java/lang/Object", "getClass", "()Ljava/lang/Class;"⟩ ∈ lw_all) (hsel : Cond.selects "[Ljava/lang/Object;" ⟨"java/lang/Object", "getClass", "()Ljava/lang/Class;"⟩ ⟨"java/lang/Object", "getClass", "()Ljava/lang/Class;"⟩ ∈ lw_all) (hinst : Cond.instanceMethod ⟨"java/lang/Object", "getClass", "()Ljava/lang/Class;"⟩ ∈ lw_all) (hnat : Cond.native ⟨"java/lang/Object", "getClass", "()Ljava/lang/Class;"⟩ ∈ lw_all)
    (hf : 1 ≤ R.frames ∧ 30 ≤ R.locals) (hst : (st.map fun v => v.category).sum ≤ 8) (d : decode cc pc = .ok (.invokevirtual i, 3)) (hn : pc + 3 = n') {mi : Nat} (hmi : (gD Γ).2.2.2 = mi) (he : hp a = some (aQ N f)) (kk : V Γ k n hp n' L (.ref mi :: st)) : V Γ k n hp pc L (.ref a :: st) := fun H locs ls a1 a2 a3 a4 => by
  subst hn hmi
  have hts := h.2.2.2.2.2.1
  have hRR := h.2.2.2.2.2.2.2.2.2
  have hE := h.2.2.2.2.2.2.1
  exact va_getC h.1 h.2.1 (by rw [h.2.2.1]; exact a4.2.1.symm) h.2.2.2.2.1 (hts _ hw) (va_Dc.use hE.2.2.2.1) (hts _ hsel) (hts _ hinst) (hts _ hnat) hE.2.2.2.2.1 ⟨_, a1 a _ he, rfl, va_nmO (hE.1.2 3 _ rfl).2 (by decide)⟩ (by rw [hRR]; exact hf.1) (by rw [hRR]; omega) d (kk H locs ls a1 a2 a3 a4)
theorem v_copy (h : Ok0 cc own ret R Γ) {ix a0 a n0 n1 : Nat} {f g : Nat → Option Nat} {m : Int} (hw : Cond.methodLink own ix arraycopyName ∈ lw_all) (hnat : Cond.native arraycopyName ∈ lw_all) (hstat : Cond.static arraycopyName ∈ lw_all) (hini : Cond.initialized "java/lang/System" ∈ lw_all) (hf : 1 ≤ R.frames ∧ 60 ≤ R.locals) (hst : (st.map fun v => v.category).sum ≤ 8) (d : decode cc pc = .ok (.invokestatic ix, 3)) (hn : pc + 3 = n')
    (he0 : hp a0 = some (aQ n0 f)) (he : hp a = some (aQ n1 g)) (hm : 0 ≤ m ∧ m.toNat ≤ n0 ∧ m.toNat ≤ n1 ∧ m ≤ 1000) (hel : ∀ i y, f i = some y → ∃ (kd : Nat) (fs : List Value), kd < 5 ∧ hp y = some (.inr (5 + kd, fs)))
    (kk : V Γ k n (upH hp a (aQ n1 (va_cpy f g 0 0 m.toNat))) n' L st) : V Γ k n hp pc L (.int (iI m) :: .int (iI 0) :: .ref a :: .int (iI 0) :: .ref a0 :: st) := fun H locs ls a1 a2 a3 a4 => by
  subst hn
  have hts := h.2.2.2.2.2.1
  have hRR := h.2.2.2.2.2.2.2.2.2
  have hK := h.2.2.2.2.2.2.1.1
  have hA : gA Γ a := a2 a (by rw [he]; exact fun z => by cases z)
  have z0 : ¬ (iI 0 : Int32) < 0 := by decide
  have zm : ¬ (iI m : Int32) < 0 := by rw [← iI_0, iI_lt (by omega) (by omega)]; omega
  have c0 : (iI 0 : Int32).toNatClampNeg = 0 := by decide
  have cm : (iI m : Int32).toNatClampNeg = m.toNat := iI_clamp (by omega)
  have t0 : (iI 0 : Int32).toInt = 0 := by decide
  have tm : (iI m : Int32).toInt = m := iI_ti (by omega)
  intro T hT X
  have hc0 : H[a0]? = some (vp_cell ((gD Γ).2.1 3) (n0, .inr (.inr (.inr (.inr f))))) := a1 a0 _ he0
  have hc1 : H[a]? = some (vp_cell ((gD Γ).2.1 3) (n1, .inr (.inr (.inr (.inr g))))) := a1 a _ he
  obtain ⟨-, k0, hk0, cm0, hkk0⟩ := (hK.2 3 _ rfl).1 n0 (fun j => va_rf (f j))
  obtain ⟨vm', X', step⟩ := X.arraycopy h.1 h.2.2.2.2.1 (hts _ hw) (hts _ hnat) (hts _ hstat) (hts _ hini) (src := a0) (dst := a) (cs := vp_cell ((gD Γ).2.1 3) (n0, .inr (.inr (.inr (.inr f))))) (cd := vp_cell ((gD Γ).2.1 3) (n1, .inr (.inr (.inr (.inr g))))) (srcPos := iI 0) (destPos := iI 0) (n := iI m) (by rw [hT]; exact hc0) (by rw [hT]; exact hc1)
    (fun _ h => by cases h) (fun _ h => by cases h) (fun h => by cases h) (fun h => by cases h) hk0 hk0 hkk0 hkk0 rfl z0 z0 zm
    (by rw [t0, tm]; show ¬ _ > ((arrV ((gD Γ).2.1 3) n0 (fun j => va_rf (f j))).slots.size : Int); rw [arrV_size]; omega)
    (by rw [t0, tm]; show ¬ _ > ((arrV ((gD Γ).2.1 3) n1 (fun j => va_rf (g j))).slots.size : Int); rw [arrV_size]; omega)
    (fun vm₁ hal i hi => by
      rw [c0]
      rw [cm] at hi
      have e : (vp_cell ((gD Γ).2.1 3) (n0, .inr (.inr (.inr (.inr f))))).slots.getD (0 + i) .null = va_rf (f (0 + i)) := by
        show (arrV ((gD Γ).2.1 3) n0 (fun j => va_rf (f j))).slots.getD _ _ = _
        rw [Array.getD_eq_getD_getElem?, arrV_read _ _ (by omega)]
        rfl
      rw [e]
      cases hy : f (0 + i) with
      | none => exact ⟨rfl, trivial⟩
      | some y =>
        obtain ⟨kd, fs, hkd, hey⟩ := hel _ y hy
        obtain ⟨cellV, g1, g2, ⟨kC, hkC⟩, hasg⟩ := any_E h hkd hey a1
        obtain ⟨kA, comp, r1, r2, r3, -⟩ := (hK.2 3 _ rfl).2
        cases hk0.symm.trans r1
        cases hkk0.symm.trans r2
        obtain ⟨kE, hkE, -⟩ := Vm.findClass_spec r3
        obtain ⟨kC', hkC', -⟩ := hal.2.2 _ _ hkC
        obtain ⟨kE', hkE', -⟩ := hal.2.2 _ _ hkE
        refine ⟨rfl, cellV, (show T.heap[y]? = some cellV by rw [hT]; exact g1), (fun q h => by rw [h] at g2; cases g2), ⟨kC', hkC'⟩, ?_, ?_⟩
        · exact ⟨kE', hkE'⟩
        · show vm₁.assignable _ _ = true
          rw [hal.assignable]
          exact hasg _ r3)
    (g := F0 (gM Γ) pc ls (.int (iI m) :: .int (iI 0) :: .ref a :: .int (iI 0) :: .ref a0 :: st)) rfl (by rw [h.2.2.1]; exact a4.2.1) (rest := st) rfl (by rw [h.2.1]; exact d) (by rw [hRR]; exact hf.1) (by show 2 * 0 + _ + _ ≤ _; rw [hRR]; have hw : nativeFrameWords "java/lang/System" "arraycopy" 5 ≤ 40 := (by decide); omega)
  have e1 : copied (vp_cell ((gD Γ).2.1 3) (n0, .inr (.inr (.inr (.inr f))))) (vp_cell ((gD Γ).2.1 3) (n1, .inr (.inr (.inr (.inr g))))) (iI 0) (iI 0) (iI m) = vp_cell ((gD Γ).2.1 3) (n1, .inr (.inr (.inr (.inr (va_cpy f g 0 0 m.toNat))))) := by
    rw [vp_cell_q, vp_cell_q, vp_cell_q]
    refine (va_copied (fun z => va_rf z) _ _ f g (show (iI 0 : Int32).toNatClampNeg + (iI m : Int32).toNatClampNeg ≤ n0 by rw [c0, cm]; omega)).trans ?_
    rw [c0, cm]
  rw [e1] at X' step
  have hl : a < H.size := (Array.getElem?_eq_some_iff.mp hc1).1
  have hheap : ((T.setVm vm').setCell a (vp_cell ((gD Γ).2.1 3) (n1, .inr (.inr (.inr (.inr (va_cpy f g 0 0 m.toNat))))))).heap = H.setIfInBounds a (vp_cell ((gD Γ).2.1 3) (n1, .inr (.inr (.inr (.inr (va_cpy f g 0 0 m.toNat)))))) := by rw [← hT]; rfl
  have oq : ∀ q : Nat, q ≠ a → (H.setIfInBounds a (vp_cell ((gD Γ).2.1 3) (n1, .inr (.inr (.inr (.inr (va_cpy f g 0 0 m.toNat)))))))[q]? = H[q]? := fun q hq => by simp [Array.getElem?_setIfInBounds, Ne.symm hq]
  obtain ⟨t, b1, b2⟩ := kk _ _ ls (a1.up (show (H.setIfInBounds a _)[a]? = some _ by simp only [Array.getElem?_setIfInBounds, hl, if_true]) (fun q c _ => oq q c)) (up_dom hA a2) ⟨by simp; exact a3.1, fun q g1 g2 => by
      rw [oq q (fun e => g2 (by rw [e]; exact hA))]
      exact a3.2.1 q g1 g2, fun q hq => by
      rcases List.mem_append.mp hq with h | h
      · exact a3.2.2 q h
      · obtain ⟨z, -, hz⟩ := List.mem_map.mp h
        rw [← hz]
        exact hA⟩ a4 _ hheap X'
  exact ⟨t, step t b1, b2⟩
theorem v_iushr (h : Ok0 cc own ret R Γ) {x y v : Int32} (d : decode cc pc = .ok (.iushr, 1)) (hn : pc + 1 = n') (hv : (x.toUInt32 >>> (y.toUInt32 &&& Int32.toUInt32 31)).toInt32 = v) (kk : V Γ k n hp n' L (.int v :: st)) : V Γ k n hp pc L (.int y :: .int x :: st) := fun H locs ls a1 a2 a3 a4 => by
  subst hn
  exact lv_iushr h.1 h.2.1 d hv (kk H locs ls a1 a2 a3 a4)
theorem v_iadd32 (h : Ok0 cc own ret R Γ) {x y : Int32} (d : decode cc pc = .ok (.iadd, 1)) (hn : pc + 1 = n') (kk : V Γ k n hp n' L (.int (x + y) :: st)) : V Γ k n hp pc L (.int y :: .int x :: st) := fun H locs ls a1 a2 a3 a4 => by
  subst hn
  exact lv_iadd h.1 h.2.1 d (kk H locs ls a1 a2 a3 a4)
theorem v_isub32 (h : Ok0 cc own ret R Γ) {x y : Int32} (d : decode cc pc = .ok (.isub, 1)) (hn : pc + 1 = n') (kk : V Γ k n hp n' L (.int (x - y) :: st)) : V Γ k n hp pc L (.int y :: .int x :: st) := fun H locs ls a1 a2 a3 a4 => by
  subst hn
  exact lv_isub h.1 h.2.1 d (kk H locs ls a1 a2 a3 a4)
end VE
/-! regions: what may change -/
def Frm (W : Nat → Prop) (hp hp' : AH) : Prop := ∀ q, ¬ W q → hp' q = hp q
def Fre (W : Nat → Prop) (hp : AH) : Prop := ∀ q, hp q = none → W q
def Fsh (hp : AH) : Nat → Prop := fun q => hp q = none
theorem Frm.rf {W : Nat → Prop} {hp : AH} : Frm W hp hp := fun _ _ => rfl
theorem Frm.tr {W : Nat → Prop} {h1 h2 h3 : AH} (a : Frm W h1 h2) (b : Frm W h2 h3) : Frm W h1 h3 := fun q hq => (b q hq).trans (a q hq)
theorem Frm.fre {W : Nat → Prop} {h1 h2 : AH} (a : Frm W h1 h2) (f : Fre W h1) : Fre W h2 := by
  intro q hq
  apply Classical.byContradiction
  intro c
  exact c (f q (by rw [← a q c]; exact hq))
theorem Frm.up {W : Nat → Prop} {hp : AH} {a : Nat} {e : va_E} (h : W a) : Frm W hp (upH hp a e) := fun q hq => upH_n (fun c => hq (by rw [c]; exact h))
theorem Frm.wk {W W' : Nat → Prop} {h1 h2 : AH} (a : Frm W h1 h2) (hw : ∀ q, W q → W' q) : Frm W' h1 h2 := fun q hq => a q (fun c => hq (hw q c))
theorem Fre.sh {hp : AH} : Fre (Fsh hp) hp := fun _ h => h
theorem Frm.at {W : Nat → Prop} {h1 h2 : AH} (a : Frm W h1 h2) {q : Nat} {e : va_E} (hq : h1 q = some e) (hw : ¬ W q) : h2 q = some e := (a q hw).trans hq
theorem Fsh.no {hp : AH} {q : Nat} {e : va_E} (h : hp q = some e) : ¬ Fsh hp q := fun z => by
  unfold Fsh at z
  rw [z] at h
  cases h
theorem Frm.ex {h1 h2 : AH} (a : Frm (Fsh h1) h1 h2) {q : Nat} {e : va_E} (hq : h1 q = some e) : h2 q = some e := a.at hq (Fsh.no hq)
theorem cell_ne {hp : AH} {a b : Nat} {e e' : va_E} (h1 : hp a = some e) (h2 : hp b = some e') (h : e ≠ e') : a ≠ b := fun c => by
  subst c
  exact h (Option.some.inj (h1.symm.trans h2))
theorem free_ne {hp : AH} {a b : Nat} {e : va_E} (h1 : hp a = some e) (h2 : hp b = none) : a ≠ b := fun c => by
  subst c
  rw [h2] at h1
  cases h1
