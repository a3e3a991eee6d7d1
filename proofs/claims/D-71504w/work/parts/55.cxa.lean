/-! THE CLASS: image, restore -/
set_option maxRecDepth 100000
/-- two trees: the live one, and one beside it -/
def C4 (de : Nat) (hp : AH) (W : Nat → Prop) (A : Nat → Nat) (t : Nat) (ad : Nat → Nat) (K U : Nat → Int) (a b f : Int) (te : Tre) (z : Nat) (adk : Nat → Nat) (K' U' : Nat → Int) (te' : Tre) : Prop :=
  Fre W hp ∧ TT hp W t ad K U a b f te ∧ Sm de hp W (A 10) ∧ TT hp (fun q => ¬ W q) z adk K' U' a b f te'
def CI (de : Nat) (hp : AH) (W : Nat → Prop) (ax : Nat) (A : Nat → Nat) (t : Nat) (kt : Option Nat) (σ : MS) (ad : Nat → Nat) (K U : Nat → Int) (a b f : Int) (te : Tre) (z : Nat) (adk : Nat → Nat) (K' U' : Nat → Int) (te' : Tre) : Prop :=
  XR hp W ax A t kt σ ∧ C4 de hp W A t ad K U a b f te z adk K' U' te'
section CI
variable {de : Nat} {hp : AH} {W : Nat → Prop} {ax : Nat} {A : Nat → Nat} {t : Nat} {kt : Option Nat} {σ : MS} {ad : Nat → Nat} {K U : Nat → Int} {a b f : Int} {te : Tre} {z : Nat} {adk : Nat → Nat} {K' U' : Nat → Int} {te' : Tre}
theorem C4.keep (h : C4 de hp W A t ad K U a b f te z adk K' U' te') {q0 : Nat} {e e' : va_E} (ha : hp q0 = some e) (hw : ¬ W q0) (hc : ∀ kd fs, kd < 6 → e ≠ .inr (5 + kd, fs)) (h1 : ∀ fs, e ≠ .inr (1, fs)) (hq : ∀ N f, e ≠ aQ N f) : C4 de (upH hp q0 e') W A t ad K U a b f te z adk K' U' te' := by
  obtain ⟨g2, g3, g5, g6⟩ := h
  refine ⟨?_, g3.keep (fun q c hq1 hw1 => (upH_n (fun z => hw (by rw [← z]; exact hw1))).trans hq1), ?_, ?_⟩
  · intro q hq1
    by_cases c : q = q0
    · rw [c, upH_s] at hq1; cases hq1
    · rw [upH_n c] at hq1; exact g2 q hq1
  · obtain ⟨xs, ⟨arr, k1, k2, k3⟩, k4, k5⟩ := g5
    refine ⟨xs, ⟨arr, (upH_n (fun z => ?_)).trans k1, k2, k3.imp id (fun q => ⟨q.1, q.2.1, (upH_n (fun z => ?_)).trans q.2.2⟩)⟩, k4, fun i y hy => ⟨(upH_n (fun z => ?_)).trans (k5 i y hy).1, (k5 i y hy).2⟩⟩
    · rw [z, ha] at k1; exact hc 5 _ (by decide) (Option.some.inj k1)
    · have := q.2.2; rw [z, ha] at this; exact hq _ _ (Option.some.inj this)
    · have := (k5 i y hy).1
      rw [z, ha] at this
      have hi : i < xs.length := (List.getElem?_eq_some_iff.mp hy).1
      exact hc i _ (by omega) (Option.some.inj this)
  · refine ⟨(upH_n (fun z => ?_)).trans g6.1, g6.2.1, g6.2.2.frm (fun x hx => upH_n (fun z => ?_))⟩
    · have := g6.1; rw [z, ha] at this; exact h1 _ (Option.some.inj this)
    · obtain ⟨_, _, p1, _, _, p4⟩ := g6.2.2.at hx
      rw [z, ha] at p1
      exact hc (K' x).toNat _ (by omega) (Option.some.inj p1)
theorem C4.wT (h : C4 de hp W A t ad K U a b f te z adk K' U' te') {t0 : Nat} (hX : XR hp W ax A t0 kt σ) {kt' : Option Nat} {σ' : MS} (e : σ'.2 = σ.2) : CI de (upH hp ax (xO A t kt' σ')) W ax A t kt' σ' ad K U a b f te z adk K' U' te' :=
  ⟨hX.set e, h.keep hX.1 hX.2.1 (fun kd fs _ z => by have := congrArg Prod.fst (Sum.inr.inj z); simp at this; omega) (fun fs z => by have := congrArg Prod.fst (Sum.inr.inj z); simp at this) (fun N g z => by cases z)⟩
theorem CI.wO (h : CI de hp W ax A t kt σ ad K U a b f te z adk K' U' te') {kt' : Option Nat} {σ' : MS} (e : σ'.2 = σ.2) : CI de (upH hp ax (xO A t kt' σ')) W ax A t kt' σ' ad K U a b f te z adk K' U' te' := h.2.wT h.1 e
theorem CI.wA (h : CI de hp W ax A t kt σ ad K U a b f te z adk K' U' te') {g : Nat} {i x : Int} (hg : xLen g ≠ 0) : CI de (upH hp (A g) (aG (xTag g) (xLen g) (upg (σ.2 g) i x))) W ax A t kt (setA σ g i x) ad K U a b f te z adk K' U' te' :=
  ⟨h.1.arr hg, h.2.keep (h.1.2.2.1 g hg).1 (h.1.2.2.1 g hg).2 (fun kd fs _ z => by cases z) (fun fs z => by cases z) (fun N g z => by have q := congrArg (fun p : ClassId × vp_A => p.2.2) (Sum.inl.inj z); cases q)⟩
end CI
/-- new cells go to another tree: the live one keeps its own -/
theorem CH.fork {de : Nat} {hp hp1 : AH} {W : Nat → Prop} {ax : Nat} {A : Nat → Nat} {t : Nat} {kt : Option Nat} {σ : MS} {ad : Nat → Nat} {s : SS} {z : Nat} {adk : Nat → Nat} {K' U' : Nat → Int} {te' : Tre} (h : CH de hp W ax A t kt σ ad s) (f : Frm (Fsh hp) hp hp1) (hz : TT hp1 (Fsh hp) z adk K' U' (sA s) (sB s) (sF s) te') :
    CI de hp1 (fun q => (W q ∧ hp q ≠ none) ∨ hp1 q = none) ax A t kt σ ad (sC s).2.1 (sC s).2.2.1 (sA s) (sB s) (sF s) (sC s).1 z adk K' U' te' := by
  obtain ⟨h1, h2, h3, h5, -⟩ := h
  have nw : ∀ q e, hp q = some e → ¬ W q → ¬ ((W q ∧ hp q ≠ none) ∨ hp1 q = none) := fun q e hq hw c => by
    rcases c with c | c
    · exact hw c.1
    · rw [f.ex hq] at c; cases c
  refine ⟨⟨f.ex h1.1, nw _ _ h1.1 h1.2.1, fun i hi => ⟨f.ex (h1.2.2.1 i hi).1, nw _ _ (h1.2.2.1 i hi).1 (h1.2.2.1 i hi).2⟩, h1.2.2.2⟩, fun q hq => Or.inr hq, ?_, ?_, ?_⟩
  · obtain ⟨t1, t2, t3⟩ := h3
    refine ⟨f.ex t1, Or.inl ⟨t2, by rw [t1]; exact fun z => by cases z⟩, t3.cg (fun x hx => ?_)⟩
    obtain ⟨_, _, q1, _⟩ := t3.at hx
    exact ⟨rfl, rfl, rfl, (f.ex q1).trans q1.symm, fun w => Or.inl ⟨w, by rw [q1]; exact fun z => by cases z⟩⟩
  · obtain ⟨xs, ⟨arr, k1, k2, k3⟩, k4, k5⟩ := h5
    exact ⟨xs, ⟨arr, f.ex k1, nw _ _ k1 k2, k3.imp id (fun q => ⟨q.1, nw _ _ q.2.2 q.2.1, f.ex q.2.2⟩)⟩, k4, fun i y hy => ⟨f.ex (k5 i y hy).1, nw _ _ (k5 i y hy).1 (k5 i y hy).2⟩⟩
  · obtain ⟨t1, t2, t3⟩ := hz
    have nf : ∀ q e, hp1 q = some e → Fsh hp q → ¬ ((W q ∧ hp q ≠ none) ∨ hp1 q = none) := fun q e hq hw c => by
      rcases c with c | c
      · exact c.2 hw
      · rw [hq] at c; cases c
    refine ⟨t1, nf _ _ t1 t2, t3.cg (fun x hx => ?_)⟩
    obtain ⟨_, _, q1, _⟩ := t3.at hx
    exact ⟨rfl, rfl, rfl, rfl, fun w => nf _ _ q1 w⟩
/-- one array copied so far -/
def Cp1 (f g : Nat) (σ0 σ : MS) (j : Int) : Prop := σ.1 = σ0.1 ∧ (∀ h, h ≠ g → σ.2 h = σ0.2 h) ∧ ∀ i, 0 ≤ i → i < j → σ.2 g i = σ0.2 f i
theorem Cp1.step {f g : Nat} {σ0 σ : MS} {j : Int} (h : Cp1 f g σ0 σ j) (hfg : f ≠ g) : Cp1 f g σ0 (setA σ g j (σ.2 f j)) (j + 1) := by
  obtain ⟨h1, h2, h3⟩ := h
  refine ⟨h1, fun k hk => ?_, fun i i0 i1 => ?_⟩
  · funext i; rw [setA_2o hk, h2 k hk]
  · by_cases c : i = j
    · rw [c, setA_2s, h2 f hfg]
    · rw [setA_2n c]; exact h3 i i0 (by omega)
theorem k_image (de : Nat) (hp : AH) (ax : Nat) (s : SS) (n : Int) (hC : CRel de hp ax s) (hi : SInv s n) (hn : n ≤ 64) : CtE de yX0_image cX0_image 2 (some .int) (rmK 52 41 170) [.ref ax] hp (rI (fun r hp' => r = (oImage s).1 ∧ CRel de hp' ax (oImage s).2)) := by
  have hC2 := hC
  obtain ⟨W, A, t, kt, σ, ad, hH, hX⟩ := hC2
  have hr := x_r hX hi hn
  have hx := hH.1.1
  have ht := hH.2.2.1.1
  have e1 : σ.1 1 = sSh s := hX.1
  obtain ⟨hs, hz1, hB, hk1, hab, -⟩ := tr_all hi hn
  unfold oImage
  refine CtE.of (by decide) (EL.c1 rfl (EL.nn EL.n0)) (fun Γ h hq hnm hde => ?_)
  have loop : ∀ (W1 : Nat → Prop) (z : Nat) (adk : Nat → Nat) (hp1 : AH) (σ1 : MS), CI de hp1 W1 ax A t (some z) σ1 ad (sC s).2.1 (sC s).2.2.1 (sA s) (sB s) (sF s) (sC s).1 z adk (sC s).2.1 (sC s).2.2.1 (sC s).1 → σ1 = setI (setI (setI σ 13 (σ.1 1)) 14 (σ.1 5)) 15 (σ.1 6) → sSh s ≠ 0 → V Γ 41 170 hp1 52 [some (.ref ax), none] [] := by
    intro W1 z adk hp1 σ1 H1 es1 hsh
    have fin : ∀ (hp2 : AH) (σ3 : MS), CI de hp2 W1 ax A t (some z) σ3 ad (sC s).2.1 (sC s).2.2.1 (sA s) (sB s) (sF s) (sC s).1 z adk (sC s).2.1 (sC s).2.2.1 (sC s).1 → σ3.1 = σ1.1 → (∀ f, f < 16 → σ3.2 f = σ.2 f) → (∀ i, 0 ≤ i → i < 60 → σ3.2 16 i = σ.2 4 i) → (∀ i, 0 ≤ i → i < 6 → σ3.2 17 i = σ.2 7 i ∧ σ3.2 18 i = σ.2 8 i ∧ σ3.2 19 i = σ.2 9 i) → (∀ i, σ3.2 19 i = 0 ∨ σ3.2 19 i = 1) → V Γ 41 170 hp2 128 [some (.ref ax), some (.int (iI 6))] [] := by
      intro hp2 σ3 H3 q1 q2 q3 q4 q5
      have hx3 := H3.1.1
      have ht3 := H3.2.2.1.1
      obtain ⟨x1, x2, x3, x4, x5, x6⟩ := hX
      refine v_aload_n (n' := 129) h dX0_image_128 rfl rfl ?_
      refine v_get (n' := 132) (ci := 0) h rfl in_X0 0 (by decide) q188 rfl dX0_image_129 rfl (by first | assumption | exact upH_s | exact (upH_n (by assumption)).trans (by assumption) | exact (upH_n (by assumption)).trans upH_s | exact (upH_n (by assumption)).trans ((upH_n (by assumption)).trans (by assumption))) (by rfl) ?_
      refine v_getN (n' := 135) (ci := 1) h rfl in_X1 4 (by decide) q127 rfl dX0_image_132 rfl (by first | assumption | exact upH_s | exact (upH_n (by assumption)).trans (by assumption) | exact (upH_n (by assumption)).trans upH_s | exact (upH_n (by assumption)).trans ((upH_n (by assumption)).trans (by assumption))) (by rfl) ?_
      refine v_iret h hq dX0_image_135 (by omega) (by omega) (ret_i ?_)
      rw [if_neg hsh]
      refine ⟨rfl, W1, A, t, some z, σ3, ad, ⟨H3.1, H3.2.1, H3.2.2.1, H3.2.2.2.1, Or.inr ⟨z, rfl, ?_, fun _ => ⟨adk, H3.2.2.2.2, ?_, ?_⟩⟩⟩, ?_⟩
      · rw [q1, es1]; exact e1
      · refine ⟨by rw [q1, es1]; exact x4.1, x4.2.1, fun i hi => ?_⟩
        have hl : (sC s).2.2.2.1.length ≤ 60 := x4.2.1
        have hi : i < (sC s).2.2.2.1.length := hi
        rw [q3 i (by omega) (by omega)]
        exact x4.2.2 i hi
      · refine ⟨by rw [q1, es1]; exact x5.1, x5.2.1, fun i hi => ?_⟩
        have hl : (sC s).2.2.2.2.length ≤ 6 := x5.2.1
        have hi : i < (sC s).2.2.2.2.length := hi
        obtain ⟨r1, r2, r3⟩ := q4 i (by omega) (by omega)
        rw [r1, r2, r3]
        exact x5.2.2 i hi
      · exact ⟨by rw [q1, es1]; exact x1, by rw [q1, es1]; exact x2, fun i a b => by rw [q2 2 (by decide)]; exact x3 i a b, x4.cg (by rw [q1, es1]; rfl) (q2 4 (by decide)), x5.cg (by rw [q1, es1]; rfl) (q2 7 (by decide)) (q2 8 (by decide)) (q2 9 (by decide)), fun i => ⟨by rw [q2 9 (by decide)]; exact (x6 i).1, q5 i⟩⟩
    have n164 : A 16 ≠ A 4 := fun z => by have := H1.1.2.2.2 16 4 (by decide) (by decide) z; omega
    have loop2 : ∀ (m j : Nat) (hp2 : AH) (σ3 : MS), j + m = 6 → CI de hp2 W1 ax A t (some z) σ3 ad (sC s).2.1 (sC s).2.2.1 (sA s) (sB s) (sF s) (sC s).1 z adk (sC s).2.1 (sC s).2.2.1 (sC s).1 → σ3.1 = σ1.1 → (∀ f, f < 16 → σ3.2 f = σ.2 f) → (∀ i, 0 ≤ i → i < 60 → σ3.2 16 i = σ.2 4 i) → (∀ i : Int, 0 ≤ i → i < j → σ3.2 17 i = σ.2 7 i ∧ σ3.2 18 i = σ.2 8 i ∧ σ3.2 19 i = σ.2 9 i) → (∀ i, σ3.2 19 i = 0 ∨ σ3.2 19 i = 1) → V Γ 41 170 hp2 80 [some (.ref ax), some (.int (iI j))] [] := by
      intro m
      induction m with
      | zero =>
        intro j hp2 σ3 hj H3 q1 q2 q3 q4 q5
        obtain rfl : j = 6 := by omega
        refine v_iload_n (n' := 81) h dX0_image_80 rfl rfl ?_
        refine v_bipush (n' := 83) h dX0_image_81 rfl (by decide) ?_
        refine v_icmp_ge (n' := 86) (tgt := 128) h dX0_image_83 rfl rfl (by omega) (by omega) (fun c83 => ?_) (fun c83 => ?_)
        · exact fin hp2 σ3 H3 q1 q2 q3 q4 q5
        · omega
      | succ m ih =>
        intro j hp2 σ3 hj H3 q1 q2 q3 q4 q5
        have hx3 := H3.1.1
        have a7 : hp2 (A 7) = some (aG 0 6 (σ3.2 7)) := (H3.1.2.2.1 7 (by decide)).1
        have a8 : hp2 (A 8) = some (aG 0 6 (σ3.2 8)) := (H3.1.2.2.1 8 (by decide)).1
        have a9 : hp2 (A 9) = some (aG 2 6 (σ3.2 9)) := (H3.1.2.2.1 9 (by decide)).1
        have a17 : hp2 (A 17) = some (aG 0 6 (σ3.2 17)) := (H3.1.2.2.1 17 (by decide)).1
        have a18 : hp2 (A 18) = some (aG 0 6 (σ3.2 18)) := (H3.1.2.2.1 18 (by decide)).1
        have a19 : hp2 (A 19) = some (aG 2 6 (σ3.2 19)) := (H3.1.2.2.1 19 (by decide)).1
        have ne : ∀ i j, xLen i ≠ 0 → xLen j ≠ 0 → i ≠ j → A i ≠ A j := fun i j hi hj hij z => hij (H3.1.2.2.2 i j hi hj z)
        have x17 : ax ≠ A 17 := (H3.1.na (by decide)).symm
        have x18 : ax ≠ A 18 := (H3.1.na (by decide)).symm
        have u1 : A 8 ≠ A 17 := ne 8 17 (by decide) (by decide) (by decide)
        have u2 : A 18 ≠ A 17 := ne 18 17 (by decide) (by decide) (by decide)
        have u3 : A 9 ≠ A 17 := ne 9 17 (by decide) (by decide) (by decide)
        have u4 : A 9 ≠ A 18 := ne 9 18 (by decide) (by decide) (by decide)
        have u5 : A 19 ≠ A 17 := ne 19 17 (by decide) (by decide) (by decide)
        have u6 : A 19 ≠ A 18 := ne 19 18 (by decide) (by decide) (by decide)
        have ej : ((j + 1 : Nat) : Int) = (j : Int) + 1 := by omega
        have nz : narrow .boolean (.int (iI (σ3.2 9 (j : Int)))) = .int (iI (σ3.2 9 (j : Int))) := by
          rw [q2 9 (by decide)]
          rcases (hX.2.2.2.2.2 (j : Int)).1 with q | q <;> rw [q] <;> decide
        refine v_iload_n (n' := 81) h dX0_image_80 rfl rfl ?_
        refine v_bipush (n' := 83) h dX0_image_81 rfl (by decide) ?_
        refine v_icmp_ge (n' := 86) (tgt := 128) h dX0_image_83 rfl rfl (by omega) (by omega) (fun c83 => ?_) (fun c83 => ?_)
        · omega
        · refine v_aload_n (n' := 87) h dX0_image_86 rfl rfl ?_
          refine v_get (n' := 90) (ci := 0) h rfl in_X0 17 (by decide) q207 rfl dX0_image_87 rfl (by first | assumption | exact upH_s | exact (upH_n (by assumption)).trans (by assumption) | exact (upH_n (by assumption)).trans upH_s | exact (upH_n (by assumption)).trans ((upH_n (by assumption)).trans (by assumption))) (by rfl) ?_
          refine v_iload_n (n' := 91) h dX0_image_90 rfl rfl ?_
          refine v_aload_n (n' := 92) h dX0_image_91 rfl rfl ?_
          refine v_get (n' := 95) (ci := 0) h rfl in_X0 7 (by decide) q197 rfl dX0_image_92 rfl (by first | assumption | exact upH_s | exact (upH_n (by assumption)).trans (by assumption) | exact (upH_n (by assumption)).trans upH_s | exact (upH_n (by assumption)).trans ((upH_n (by assumption)).trans (by assumption))) (by rfl) ?_
          refine v_iload_n (n' := 96) h dX0_image_95 rfl rfl ?_
          refine v_giald (n' := 97) h dX0_image_96 rfl (by first | assumption | exact upH_s | exact (upH_n (by assumption)).trans (by assumption) | exact (upH_n (by assumption)).trans upH_s | exact (upH_n (by assumption)).trans ((upH_n (by assumption)).trans (by assumption))) (by omega) (by omega) ?_
          refine v_giast (n' := 98) h dX0_image_97 rfl (by first | assumption | exact upH_s | exact (upH_n (by assumption)).trans (by assumption) | exact (upH_n (by assumption)).trans upH_s | exact (upH_n (by assumption)).trans ((upH_n (by assumption)).trans (by assumption))) (by omega) (by omega) ?_
          refine v_aload_n (n' := 99) h dX0_image_98 rfl rfl ?_
          refine v_get (n' := 102) (ci := 0) h rfl in_X0 18 (by decide) q208 rfl dX0_image_99 rfl (by first | assumption | exact upH_s | exact (upH_n (by assumption)).trans (by assumption) | exact (upH_n (by assumption)).trans upH_s | exact (upH_n (by assumption)).trans ((upH_n (by assumption)).trans (by assumption))) (by rfl) ?_
          refine v_iload_n (n' := 103) h dX0_image_102 rfl rfl ?_
          refine v_aload_n (n' := 104) h dX0_image_103 rfl rfl ?_
          refine v_get (n' := 107) (ci := 0) h rfl in_X0 8 (by decide) q198 rfl dX0_image_104 rfl (by first | assumption | exact upH_s | exact (upH_n (by assumption)).trans (by assumption) | exact (upH_n (by assumption)).trans upH_s | exact (upH_n (by assumption)).trans ((upH_n (by assumption)).trans (by assumption))) (by rfl) ?_
          refine v_iload_n (n' := 108) h dX0_image_107 rfl rfl ?_
          refine v_giald (n' := 109) h dX0_image_108 rfl (by first | assumption | exact upH_s | exact (upH_n (by assumption)).trans (by assumption) | exact (upH_n (by assumption)).trans upH_s | exact (upH_n (by assumption)).trans ((upH_n (by assumption)).trans (by assumption))) (by omega) (by omega) ?_
          refine v_giast (n' := 110) h dX0_image_109 rfl (by first | assumption | exact upH_s | exact (upH_n (by assumption)).trans (by assumption) | exact (upH_n (by assumption)).trans upH_s | exact (upH_n (by assumption)).trans ((upH_n (by assumption)).trans (by assumption))) (by omega) (by omega) ?_
          refine v_aload_n (n' := 111) h dX0_image_110 rfl rfl ?_
          refine v_get (n' := 114) (ci := 0) h rfl in_X0 19 (by decide) q209 rfl dX0_image_111 rfl ((upH_n x18).trans ((upH_n x17).trans hx3)) (by rfl) ?_
          refine v_iload_n (n' := 115) h dX0_image_114 rfl rfl ?_
          refine v_aload_n (n' := 116) h dX0_image_115 rfl rfl ?_
          refine v_get (n' := 119) (ci := 0) h rfl in_X0 9 (by decide) q199 rfl dX0_image_116 rfl ((upH_n x18).trans ((upH_n x17).trans hx3)) (by rfl) ?_
          refine v_iload_n (n' := 120) h dX0_image_119 rfl rfl ?_
          refine v_gzald (n' := 121) h dX0_image_120 rfl ((upH_n u4).trans ((upH_n u3).trans a9)) (by omega) (by omega) ?_
          refine v_gzast (n' := 122) h dX0_image_121 rfl ((upH_n u6).trans ((upH_n u5).trans a19)) (by omega) (by omega) nz ?_
          refine v_iinc1 (n' := 125) h dX0_image_122 rfl rfl ?_
          refine v_goto (tgt := 80) h dX0_image_125 rfl ?_
          rw [← ej]
          refine ih (j + 1) _ _ (by omega) (((H3.wA (g := 17) (i := (j : Int)) (x := σ3.2 7 (j : Int)) (by decide)).wA (g := 18) (i := (j : Int)) (x := σ3.2 8 (j : Int)) (by decide)).wA (g := 19) (i := (j : Int)) (x := σ3.2 9 (j : Int)) (by decide)) q1 (fun f hf => ?_) (fun i i0 i1 => ?_) (fun i i0 i1 => ?_) (fun i => ?_)
          · funext i
            rw [setA_2o (by omega), setA_2o (by omega), setA_2o (by omega), q2 f hf]
          · rw [setA_2o (by decide), setA_2o (by decide), setA_2o (by decide)]
            exact q3 i i0 i1
          · by_cases ci : i = (j : Int)
            · subst ci
              refine ⟨?_, ?_, ?_⟩
              · rw [setA_2o (by decide), setA_2o (by decide), setA_2s, q2 7 (by decide)]
              · rw [setA_2o (by decide), setA_2s, q2 8 (by decide)]
              · rw [setA_2s, q2 9 (by decide)]
            · rw [setA_2n ci, setA_2n ci, setA_2n ci, setA_2n ci, setA_2n ci, setA_2n ci, setA_2n ci, setA_2n ci, setA_2n ci]
              exact q4 i i0 (by omega)
          · show (if 19 = 19 ∧ i = (j : Int) then σ3.2 9 (j : Int) else σ3.2 19 i) = 0 ∨ (if 19 = 19 ∧ i = (j : Int) then σ3.2 9 (j : Int) else σ3.2 19 i) = 1
            split
            · rw [q2 9 (by decide)]; exact (hX.2.2.2.2.2 (j : Int)).1
            · exact q5 i
    have loop1 : ∀ (m j : Nat) (hp2 : AH) (σ3 : MS), j + m = 60 → CI de hp2 W1 ax A t (some z) σ3 ad (sC s).2.1 (sC s).2.2.1 (sA s) (sB s) (sF s) (sC s).1 z adk (sC s).2.1 (sC s).2.2.1 (sC s).1 → Cp1 4 16 σ1 σ3 (j : Int) → V Γ 41 170 hp2 54 [some (.ref ax), some (.int (iI j))] [] := by
      intro m
      induction m with
      | zero =>
        intro j hp2 σ3 hj H3 q
        obtain rfl : j = 60 := by omega
        refine v_iload_n (n' := 55) h dX0_image_54 rfl rfl ?_
        refine v_bipush (n' := 57) h dX0_image_55 rfl (by decide) ?_
        refine v_icmp_ge (n' := 60) (tgt := 78) h dX0_image_57 rfl rfl (by omega) (by omega) (fun c57 => ?_) (fun c57 => ?_)
        · refine v_iconst (n' := 79) h dX0_image_78 rfl ?_
          refine v_istore1 (n' := 80) h dX0_image_79 rfl rfl ?_
          exact loop2 6 0 hp2 σ3 (by omega) H3 q.1 (fun f hf => by rw [q.2.1 f (by omega), es1]; rfl) (fun i i0 i1 => by rw [q.2.2 i i0 (by omega), es1]; rfl) (fun i i0 i1 => by omega) (fun i => by rw [q.2.1 19 (by decide), es1]; exact (hX.2.2.2.2.2 i).2)
        · omega
      | succ m ih =>
        intro j hp2 σ3 hj H3 q
        have hx3 := H3.1.1
        have a4 : hp2 (A 4) = some (aG 0 60 (σ3.2 4)) := (H3.1.2.2.1 4 (by decide)).1
        have a16 : hp2 (A 16) = some (aG 0 60 (σ3.2 16)) := (H3.1.2.2.1 16 (by decide)).1
        have ej : ((j + 1 : Nat) : Int) = (j : Int) + 1 := by omega
        refine v_iload_n (n' := 55) h dX0_image_54 rfl rfl ?_
        refine v_bipush (n' := 57) h dX0_image_55 rfl (by decide) ?_
        refine v_icmp_ge (n' := 60) (tgt := 78) h dX0_image_57 rfl rfl (by omega) (by omega) (fun c57 => ?_) (fun c57 => ?_)
        · omega
        · refine v_aload_n (n' := 61) h dX0_image_60 rfl rfl ?_
          refine v_get (n' := 64) (ci := 0) h rfl in_X0 16 (by decide) q206 rfl dX0_image_61 rfl (by first | assumption | exact upH_s | exact (upH_n (by assumption)).trans (by assumption) | exact (upH_n (by assumption)).trans upH_s | exact (upH_n (by assumption)).trans ((upH_n (by assumption)).trans (by assumption))) (by rfl) ?_
          refine v_iload_n (n' := 65) h dX0_image_64 rfl rfl ?_
          refine v_aload_n (n' := 66) h dX0_image_65 rfl rfl ?_
          refine v_get (n' := 69) (ci := 0) h rfl in_X0 4 (by decide) q194 rfl dX0_image_66 rfl (by first | assumption | exact upH_s | exact (upH_n (by assumption)).trans (by assumption) | exact (upH_n (by assumption)).trans upH_s | exact (upH_n (by assumption)).trans ((upH_n (by assumption)).trans (by assumption))) (by rfl) ?_
          refine v_iload_n (n' := 70) h dX0_image_69 rfl rfl ?_
          refine v_giald (n' := 71) h dX0_image_70 rfl (by first | assumption | exact upH_s | exact (upH_n (by assumption)).trans (by assumption) | exact (upH_n (by assumption)).trans upH_s | exact (upH_n (by assumption)).trans ((upH_n (by assumption)).trans (by assumption))) (by omega) (by omega) ?_
          refine v_giast (n' := 72) h dX0_image_71 rfl (by first | assumption | exact upH_s | exact (upH_n (by assumption)).trans (by assumption) | exact (upH_n (by assumption)).trans upH_s | exact (upH_n (by assumption)).trans ((upH_n (by assumption)).trans (by assumption))) (by omega) (by omega) ?_
          refine v_iinc1 (n' := 75) h dX0_image_72 rfl rfl ?_
          refine v_goto (tgt := 54) h dX0_image_75 rfl ?_
          rw [← ej]
          refine ih (j + 1) _ _ (by omega) (H3.wA (g := 16) (i := (j : Int)) (x := σ3.2 4 (j : Int)) (by decide)) ?_
          rw [ej]
          exact q.step (by decide)
    refine v_iconst (n' := 53) h dX0_image_52 rfl ?_
    refine v_istore1 (n' := 54) h dX0_image_53 rfl rfl ?_
    exact loop1 60 0 hp1 σ1 (by omega) H1 ⟨rfl, fun _ _ => rfl, fun i i0 i1 => by omega⟩
  refine v_aload_n (n' := 1) h dX0_image_0 rfl rfl ?_
  refine vc_callV (n' := 4) (ci := 0) h ((c_isShelf de hp ax A t kt σ hx (by omega)).d hde) rfl (by first | assumption | exact upH_s | exact (upH_n (by assumption)).trans (by assumption) | exact (upH_n (by assumption)).trans upH_s | exact (upH_n (by assumption)).trans ((upH_n (by assumption)).trans (by assumption))) (lw_V q684 q686 qs22 q82 q687) hdX0_isShelf ⟨by omega, by decide⟩ ⟨by omega, by omega⟩ (Nat.le_of_ble_eq_true rfl) dX0_image_1 rfl (eI fun z1 hp1 p1 => ?_) rfl
  obtain ⟨ez1, fz1⟩ := p1
  have ez1 := ez1.symm
  have fz1 := fz1.symm
  subst ez1 fz1
  refine v_bif_ne (n' := 7) (tgt := 10) h dX0_image_4 rfl rfl (fun c4 => ?_) (fun c4 => ?_)
  · have hsh : sSh s ≠ 0 := by omega
    refine v_aload_n (n' := 11) h dX0_image_10 rfl rfl ?_
    refine v_new (n' := 14) (ci := 1) h rfl in_X1 tyX1 tyX1_ok q112 q113 q83 (fs := dvX1) dvX1_ok dX0_image_11 rfl (rmC (by omega)) (rmS (by omega)) (fun a11 n11 => ?_)
    refine v_dup (n' := 15) h dX0_image_14 rfl rfl ?_
    refine vc_callIN (n' := 18) h ((c_tinit de _ a11).d hde) q116 q83 q114 q115 rfl hdX1_init ⟨by omega, by decide⟩ ⟨by omega, by omega⟩ (Nat.le_of_ble_eq_true rfl) dX0_image_15 rfl (eV fun hp15 p15 => ?_) rfl
    have p15 := p15.symm
    subst p15
    have nx : ax ≠ a11 := free_ne hx n11
    have nt : t ≠ a11 := free_ne ht n11
    have F0 : Frm (Fsh hp) hp (upH hp a11 (.inr (1, dvX1))) := Frm.up n11
    have T0 := (hH.ext F0).2.2.1
    refine v_aload_n (n' := 19) h dX0_image_18 rfl rfl ?_
    refine v_get (n' := 22) (ci := 0) h rfl in_X0 0 (by decide) q188 rfl dX0_image_19 rfl (by first | assumption | exact upH_s | exact (upH_n (by assumption)).trans (by assumption) | exact (upH_n (by assumption)).trans upH_s | exact (upH_n (by assumption)).trans ((upH_n (by assumption)).trans (by assumption))) (by rfl) ?_
    refine vc_callV (n' := 25) (ci := 1) h ((c_like de _ W t ad _ _ _ _ _ _ T0 hs hz1 a11 upH_s nt).d hde) rfl (by first | assumption | exact upH_s | exact (upH_n (by assumption)).trans (by assumption) | exact (upH_n (by assumption)).trans upH_s | exact (upH_n (by assumption)).trans ((upH_n (by assumption)).trans (by assumption))) (lw_V q824 q825 q826 q83 q827) hdX1_like ⟨by omega, by decide⟩ ⟨by omega, by omega⟩ (Nat.le_of_ble_eq_true rfl) dX0_image_22 rfl (eR fun z22 hp22 p22 => ?_) rfl
    obtain ⟨ez22, F22, adk, T22⟩ := p22
    subst ez22
    have hw : ∀ q, (Fsh (upH hp z22 (.inr (1, dvX1))) q ∨ q = z22) → Fsh hp q := by
      intro q hq
      rcases hq with hq | hq
      · by_cases c : q = z22
        · rw [c]; exact n11
        · have hq : upH hp z22 (.inr (1, dvX1)) q = none := hq
          rw [upH_n c] at hq
          exact hq
      · rw [hq]; exact n11
    have FF := F0.tr (F22.wk hw)
    have H22 := hH.fork FF (T22.wk hw)
    have hx22 := H22.1.1
    refine v_put (n' := 28) (ci := 0) h rfl in_X0 tyX0 tyX0_ok nmX0 12 (by decide) q202 rfl rfl dX0_image_25 rfl (by first | assumption | exact upH_s | exact (upH_n (by assumption)).trans (by assumption) | exact (upH_n (by assumption)).trans upH_s | exact (upH_n (by assumption)).trans ((upH_n (by assumption)).trans (by assumption))) (by show 12 < 20; decide) rfl rfl ?_
    refine v_aload_n (n' := 29) h dX0_image_28 rfl rfl ?_
    refine v_aload_n (n' := 30) h dX0_image_29 rfl rfl ?_
    refine v_get (n' := 33) (ci := 0) h rfl in_X0 1 (by decide) q189 rfl dX0_image_30 rfl (by first | assumption | exact upH_s | exact (upH_n (by assumption)).trans (by assumption) | exact (upH_n (by assumption)).trans upH_s | exact (upH_n (by assumption)).trans ((upH_n (by assumption)).trans (by assumption))) (by rfl) ?_
    refine v_put (n' := 36) (ci := 0) h rfl in_X0 tyX0 tyX0_ok nmX0 13 (by decide) q203 rfl rfl dX0_image_33 rfl (by first | assumption | exact upH_s | exact (upH_n (by assumption)).trans (by assumption) | exact (upH_n (by assumption)).trans upH_s | exact (upH_n (by assumption)).trans ((upH_n (by assumption)).trans (by assumption))) (by show 13 < 20; decide) rfl rfl ?_
    rw [upH_up]
    refine v_aload_n (n' := 37) h dX0_image_36 rfl rfl ?_
    refine v_aload_n (n' := 38) h dX0_image_37 rfl rfl ?_
    refine v_get (n' := 41) (ci := 0) h rfl in_X0 5 (by decide) q195 rfl dX0_image_38 rfl (by first | assumption | exact upH_s | exact (upH_n (by assumption)).trans (by assumption) | exact (upH_n (by assumption)).trans upH_s | exact (upH_n (by assumption)).trans ((upH_n (by assumption)).trans (by assumption))) (by rfl) ?_
    refine v_put (n' := 44) (ci := 0) h rfl in_X0 tyX0 tyX0_ok nmX0 14 (by decide) q204 rfl rfl dX0_image_41 rfl (by first | assumption | exact upH_s | exact (upH_n (by assumption)).trans (by assumption) | exact (upH_n (by assumption)).trans upH_s | exact (upH_n (by assumption)).trans ((upH_n (by assumption)).trans (by assumption))) (by show 14 < 20; decide) rfl rfl ?_
    rw [upH_up]
    refine v_aload_n (n' := 45) h dX0_image_44 rfl rfl ?_
    refine v_aload_n (n' := 46) h dX0_image_45 rfl rfl ?_
    refine v_get (n' := 49) (ci := 0) h rfl in_X0 6 (by decide) q196 rfl dX0_image_46 rfl (by first | assumption | exact upH_s | exact (upH_n (by assumption)).trans (by assumption) | exact (upH_n (by assumption)).trans upH_s | exact (upH_n (by assumption)).trans ((upH_n (by assumption)).trans (by assumption))) (by rfl) ?_
    refine v_put (n' := 52) (ci := 0) h rfl in_X0 tyX0 tyX0_ok nmX0 15 (by decide) q205 rfl rfl dX0_image_49 rfl (by first | assumption | exact upH_s | exact (upH_n (by assumption)).trans (by assumption) | exact (upH_n (by assumption)).trans upH_s | exact (upH_n (by assumption)).trans ((upH_n (by assumption)).trans (by assumption))) (by show 15 < 20; decide) rfl rfl ?_
    rw [upH_up]
    exact loop _ z22 adk _ _ (H22.wO (kt' := some z22) (σ' := setI (setI (setI σ 13 (σ.1 1)) 14 (σ.1 5)) 15 (σ.1 6)) rfl) rfl hsh
  · refine v_bipush (n' := 9) h dX0_image_7 rfl (by decide) ?_
    refine v_iret h hq dX0_image_9 (by omega) (by omega) (ret_i ?_)
    rw [if_pos (by omega)]; exact ⟨rfl, hC⟩
