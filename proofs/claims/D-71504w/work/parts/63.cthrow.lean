/-! FRAMEWORK 6: methods that throw (their outcome is known ahead) -/
set_option maxRecDepth 100000
def EndX (first : State) (o : Outcome) (t : State) (L : List Loc) (k n : Nat) : Prop := (∃ x, o = .threw x) ∧ first.WarmedH t.vm ∧ first.sameButNew ({ t with vm := first.vm } : State) L k n
def MetT (l : Launch) (y : MethodName) (ws : List Cond) (rm : Room) (Pc : Array Value → State → Prop) (Qc : Array Value → State → Outcome → State → Prop) (mc ms : Nat) (free : Addr → Prop) : Prop :=
  MetFree l y (headSpec ws rm) Pc (fun _ _ _ _ _ => True) (fun a st o t => Qc a st o t ∧ ∃ L, EndX st o t L mc ms ∧ ∀ q ∈ L, free q.base)
def QT (D : DD) (postx : Nat → AH → Prop) (A : Nat → Prop) : Array Value → State → Outcome → State → Prop := fun _ st oc t =>
  (∃ (a : Nat) (hp : AH), oc = .threw a ∧ postx a hp ∧ HW D hp t.heap ∧ ∀ q, hp q ≠ none → A q) ∧ va_F A st t
def CtT (de : Nat) (y : MethodName) (b : ByteArray) (nL : Nat) (ret : Option FieldType) (rm : Room) (As : List Value) (hp : AH) (postx : Nat → AH → Prop) : Prop :=
  ∀ D : DD, D.2.2.1 = de → ∀ (l : Launch) (sz : Nat), MetT l y (ws_ y b nL ret) rm (va_Pc As (fun U => U.heap.size = sz ∧ HW D hp U.heap ∧ EE D (AA hp sz) U)) (QT D postx (AA hp sz)) rm.cells rm.slots (AA hp sz)
def RtT (postx : Nat → AH → Prop) (mc ms : Nat) (Γ : GX) : Prop := gQ Γ = fun t => ∃ o, t.status = .running ∧ Ended t (gB Γ) o ∧ QT (gD Γ) postx (gA Γ) (gArgs Γ) (gS Γ) o t ∧ ∃ L, EndX (gS Γ) o t L mc ms ∧ ∀ q ∈ L, gA Γ q.base
/-- no handler covers a place -/
def NoH (Γ : GX) : Prop := ∀ x ∈ (gC Γ).exceptionTable.toList, ∀ pc, covers x pc = false
theorem CtT.of {de : Nat} {y : MethodName} {b : ByteArray} {nL : Nat} {ret : Option FieldType} {As : List Value} {hp : AH} {postx : Nat → AH → Prop} {L : List (Option Value)} {l c s : Nat} (hy : plainName y.cls = true) (hL : EL As nL L)
    (body : ∀ Γ : GX, Ok0 b y.cls ret (rmK l c s) Γ → RtT postx c s Γ → (gMt Γ).name = y.name → (gD Γ).2.2.1 = de → (gC Γ).exceptionTable.toList = [] → V Γ 0 0 hp 0 L []) : CtT de y b nL ret (rmK l c s) As hp postx := by
  intro D hD l0 sz
  refine MetFree.of_bodyS (code := b) (maxLocals := nL) (ret := ret) hy ?_ ?_
  · intro args s m h hn
    obtain ⟨meth, c, h1, h2, h3, h4, h5, h6, -, -⟩ := Cond.code_spec hn (atoms_spec (ws := ws_ y b nL ret) h _ List.mem_cons_self)
    exact ⟨meth, c, h1, h2, h3, h4, h5, h6⟩
  · intro p e s0 m args below meth cd s₁ B hml hv _
    obtain ⟨rfl, hsz, hP, hE⟩ := hv
    subst hsz
    have hts := atoms_spec (ws := ws_ y b nL ret) B.pre
    have hts : ∀ w ∈ lw_all, w.before As.toArray s0 = true := fun w h => hts w (List.mem_cons_of_mem _ h)
    have hh0 : s₁.heap = s0.heap := by rw [B.state]; rfl
    have hx : cd.exceptionTable.toList = [] := by
      have q := B.noHandlers (atoms_spec (ws := ws_ y b nL ret) B.pre _ List.mem_cons_self)
      have q2 := Array.isEmpty_iff.mp q
      rw [q2]
    have q := body (p, l0, e, rmK l c s, s0, m, As.toArray, below, meth, cd, D, AA hp s0.heap.size, nL, fun t => ∃ o, t.status = .running ∧ Ended t below o ∧ QT D postx (AA hp s0.heap.size) As.toArray s0 o t ∧ ∃ L, EndX s0 o t L c s ∧ ∀ q ∈ L, AA hp s0.heap.size q.base)
      ⟨B.exec, B.bytes, hml, B.returns, findClass_of_methodNamed B.named, hts, hE, fun q h => Or.inr h, B.notSynchronized, rfl⟩ rfl (name_of_methodNamed B.named B.method).1 hD hx s0.heap [] _ hP (fun a h => Or.inl h) va_S.rf hL.lh
    rw [← lg_entry_eq] at q
    obtain ⟨t, a1, o, b1, b2, b3⟩ := q s₁ hh0 (Stand.of_body B)
    exact ⟨t, o, a1, b1, b2, b3⟩
section VT
variable {Γ : GX} {k n : Nat} {hp : AH} {pc : Nat} {L : List (Option Value)} {st : List Value} {cc : ByteArray} {own : String} {ret : Option FieldType} {R : Room}
theorem v_throw (h : Ok0 cc own ret R Γ) {postx : Nat → AH → Prop} {mc ms : Nat} (hq : RtT postx mc ms Γ) (hx : (gC Γ).exceptionTable.toList = []) {a : Nat} (d : decode cc pc = .ok (.athrow, 1)) (hk : k ≤ mc) (hn : n ≤ ms) (hp1 : postx a hp) : V Γ k n hp pc L (.ref a :: st) := fun H locs ls a1 a2 a3 a4 => by
  refine W.widen hk hn ?_
  intro T hT X
  obtain ⟨s1, s2, s3, s4, s5⟩ := X.athrowLeaves h.1 (g := F0 (gM Γ) pc ls (.ref a :: st)) rfl rfl rfl (fun x hx1 => by rw [hx] at hx1; cases hx1) (a := a) (rest := st) rfl (by rw [h.2.1]; exact d) h.2.2.2.2.2.2.2.2.1
  refine ⟨_, s1, ?_⟩
  rw [hq]
  have hT2 : (T.setFrames (.throwing a :: gB Γ)).heap = H := by rw [← hT]; rfl
  refine ⟨.threw a, s2, s3, ⟨⟨a, hp, rfl, hp1, by rw [hT2]; exact a1, a2⟩, ?_⟩, locs, ⟨⟨a, rfl⟩, s4, s5⟩, a3.2.2⟩
  exact a3.F hT2
end VT
