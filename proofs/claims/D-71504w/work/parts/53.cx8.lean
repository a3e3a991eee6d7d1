/-! THE CLASS: ahead, drawn -/
set_option maxRecDepth 100000
def Sim (d : Int) (te te' : Tre) : Prop := te'.1 = te.1 ∧ te'.2.1 = te.2.1 ∧ te'.2.2.2.1 = te.2.2.2.1 + d
theorem Sim.enter {d a b f : Int} {te te' : Tre} (h : Sim d te te') (k : Nat) : Sim d (teEnter a b f te k) (teEnter a b f te' k) := by
  obtain ⟨h1, h2, h3⟩ := h
  unfold teEnter
  refine ⟨?_, ?_, ?_⟩ <;> dsimp only
  · rw [h1]
  · rw [h1, h2]
  · rw [h1, h3]; omega
theorem Sim.leave {d a b f : Int} {te te' : Tre} (h : Sim d te te') (k : Nat) : Sim d (teLeave a b f te k) (teLeave a b f te' k) := by
  obtain ⟨h1, h2, h3⟩ := h
  unfold teLeave
  refine ⟨?_, ?_, ?_⟩ <;> dsimp only
  · rw [h1, h2]
  · rw [h1, h2]
  · rw [h1, h2, h3]; omega
theorem ahV_sim {d a b f : Int} : ∀ (m : Nat) (te te' : Tre) (sum : Int), Sim d te te' → ahV a b f m te' sum = ahV a b f m te sum := by
  intro m
  induction m with
  | zero => intro te te' sum _; rfl
  | succ m ih =>
    intro te te' sum h
    have e := ih _ _ (sum + 1) (h.leave (a := a) (b := b) (f := f) (tmin te.1 0))
    unfold ahV
    rw [h.1, h.2.1, e]
theorem TT.wk {hp : AH} {W W' : Nat → Prop} {t : Nat} {ad : Nat → Nat} {K U : Nat → Int} {a b f : Int} {te : Tre} (h : TT hp W t ad K U a b f te) (hw : ∀ q, W q → W' q) : TT hp W' t ad K U a b f te := ⟨h.1, hw _ h.2.1, h.2.2.cg (fun _ _ => ⟨rfl, rfl, rfl, rfl, hw _⟩)⟩
theorem lev0 {a b mo : Int} {T : Tr} {k : Nat} : ((levR a b mo T k).2.1 = 0) ↔ ¬ levC a b mo T := by
  by_cases c : levC a b mo T
  · rw [levR_a c]
    have := c.1
    constructor
    · intro z; dsimp only at z; omega
    · intro z; exact absurd c z
  · rw [levR_b c]
    exact ⟨fun _ => c, fun _ => rfl⟩
theorem tmin_ro {T : Tr} {k d : Nat} (h : ro T = some k) : tmin T k = tmin T d := by
  cases T with
  | leaf u => cases h
  | branch x l r => rfl
/-- a copy of the live tree, in new cells -/
theorem c_aheadTold (de : Nat) (hp : AH) (ax : Nat) (s : SS) (n : Int) (hC : CRel de hp ax s) (hi : SInv s n) (hn : n ≤ 64) (hsh : sSh s ≠ 0) : CtE de yX0_aheadTold cX0_aheadTold 3 (some .int) (rmK 63 521 10730) [.ref ax] hp (rI (fun z hp' => z = aheadV s ∧ CRel de hp' ax s)) := by
  obtain ⟨W, A, t, kt, σ, ad, hH, hX⟩ := hC
  have hx := hH.1.1
  have hTT := hH.2.2.1
  have ht := hTT.1
  obtain ⟨hs, hz1, hB, hk1, hab, -⟩ := tr_all hi hn
  obtain ⟨hab, hfee⟩ := hab hsh
  have hcr : ∀ hp', Frm (Fsh hp) hp hp' → CRel de hp' ax s := fun hp' f => ⟨W, A, t, kt, σ, ad, hH.ext f, hX⟩
  have hsim0 : Sim (sC s).1.2.2.2.1 ((sC s).1.1, (sC s).1.2.1, 0, 0, (0, 0)) (sC s).1 := ⟨rfl, rfl, by dsimp only; omega⟩
  have eV0 : aheadV s = ahV (sA s) (sB s) (sF s) (tz (sC s).1.1 + 1) (sC s).1 0 := (ahV_sim _ _ _ _ hsim0).symm
  refine CtE.of (by decide) (EL.c1 rfl (EL.nn (EL.nn EL.n0))) (fun Γ h hq hnm hde => ?_)
  have loop : ∀ (m : Nat) (hp1 : AH) (t2 : Nat) (ad1 : Nat → Nat) (te : Tre) (j : Nat), tz te.1 = m → m + j ≤ 40 → Frm (Fsh hp) hp hp1 → TT hp1 (Fsh hp) t2 ad1 (sC s).2.1 (sC s).2.2.1 (sA s) (sB s) (sF s) te → Srt te.1 → TeB te (256000 + 450 * (j : Int)) → ahV (sA s) (sB s) (sF s) (m + 1) te (j : Int) = aheadV s → V Γ (41 + 12 * j) (170 + 264 * j) hp1 17 [some (.ref ax), some (.ref t2), some (.int (iI ((j : Int) + 1)))] [] := by
    intro m
    induction m with
    | zero =>
      intro hp1 t2 ad1 te j hm hmj F1 T1 S1 B1 e1
      have ht2 := T1.1
      unfold ahV at e1
      rw [if_pos hm] at e1
      refine v_aload_n (n' := 18) h dX0_aheadTold_17 rfl rfl ?_
      refine v_getN (n' := 21) (ci := 1) h rfl in_X1 4 (by decide) q127 rfl dX0_aheadTold_18 rfl (by first | assumption | exact upH_s | exact (upH_n (by assumption)).trans (by assumption) | exact (upH_n (by assumption)).trans upH_s | exact (upH_n (by assumption)).trans ((upH_n (by assumption)).trans (by assumption))) (by rfl) ?_
      refine v_if_le (n' := 24) (tgt := 49) h dX0_aheadTold_21 rfl rfl (by omega) (fun c21 => ?_) (fun c21 => ?_)
      · refine v_iconst (n' := 50) h dX0_aheadTold_49 rfl ?_
        refine v_iret h hq dX0_aheadTold_50 (by omega) (by omega) (ret_i ?_)
        exact ⟨e1, hcr _ F1⟩
      · omega
    | succ m ih =>
      intro hp1 t2 ad1 te j hm hmj F1 T1 S1 B1 e1
      obtain ⟨k0, hk0⟩ : ∃ k0, ro te.1 = some k0 := by
        cases hD : te.1 with
        | leaf u => rw [hD] at hm; simp [tz] at hm
        | branch y l r => exact ⟨y, rfl⟩
      have hro : (ro te.1).map ad1 = some (ad1 k0) := by rw [hk0]; rfl
      have ht2 : hp1 t2 = some (tO (some (ad1 k0)) (sA s) (sB s) (sF s) (tz te.1 : Int) te.2.1 te.2.2.2.2.1 te.2.2.2.2.2 te.2.2.1 te.2.2.2.1) := by rw [← hro]; exact T1.1
      have kT : tmin te.1 k0 ∈ tl te.1 := by
        rcases tmin_mem (T := te.1) (d := k0) with q | q
        · rw [q.2] at hk0; cases hk0
        · exact q
      obtain ⟨lk, rk, hck, -, hk100, hKk⟩ := T1.2.2.at kT
      have et : tmin te.1 0 = tmin te.1 k0 := (tmin_ro hk0).symm
      have Sd : Srt (teLeave (sA s) (sB s) (sF s) te (tmin te.1 k0)).1 := srt_tl levR_tl (del_srt S1)
      have zd : tz (teLeave (sA s) (sB s) (sF s) te (tmin te.1 k0)).1 = m := by
        have := del_tz S1 kT
        have q : tz (teLeave (sA s) (sB s) (sF s) te (tmin te.1 k0)).1 = tz (del te.1 (tmin te.1 k0)) := tz_tl levR_tl
        omega
      have Bd := teLeave_B (a := sA s) (b := sB s) (k := tmin te.1 k0) B1 (by omega) (by omega) (by omega) hfee
      unfold ahV at e1
      rw [if_neg (by omega), et] at e1
      have ej : ((j + 1 : Nat) : Int) = (j : Int) + 1 := by omega
      refine v_aload_n (n' := 18) h dX0_aheadTold_17 rfl rfl ?_
      refine v_getN (n' := 21) (ci := 1) h rfl in_X1 4 (by decide) q127 rfl dX0_aheadTold_18 rfl (by first | assumption | exact upH_s | exact (upH_n (by assumption)).trans (by assumption) | exact (upH_n (by assumption)).trans upH_s | exact (upH_n (by assumption)).trans ((upH_n (by assumption)).trans (by assumption))) (by rfl) ?_
      refine v_if_le (n' := 24) (tgt := 49) h dX0_aheadTold_21 rfl rfl (by omega) (fun c21 => ?_) (fun c21 => ?_)
      · omega
      · refine v_aload_n (n' := 25) h dX0_aheadTold_24 rfl rfl ?_
        refine v_aload_n (n' := 26) h dX0_aheadTold_25 rfl rfl ?_
        refine v_getN (n' := 29) (ci := 1) h rfl in_X1 0 (by decide) q119 rfl dX0_aheadTold_26 rfl (by first | assumption | exact upH_s | exact (upH_n (by assumption)).trans (by assumption) | exact (upH_n (by assumption)).trans upH_s | exact (upH_n (by assumption)).trans ((upH_n (by assumption)).trans (by assumption))) (by rfl) ?_
        refine vc_callSN (n' := 32) h ((c_leastOf de hp1 (Fsh hp) ad1 _ _ _ k0 T1.2.2 hk0 41 (by omega) (by omega)).d hde) q738 q83 q832 q737 hdX1_leastOf ⟨by omega, by decide⟩ ⟨by omega, by omega⟩ (Nat.le_of_ble_eq_true rfl) dX0_aheadTold_29 rfl (eR fun z29 hp29 p29 => ?_) rfl
        obtain ⟨ez29, fz29⟩ := p29
        have ez29 := ez29.symm
        have fz29 := fz29.symm
        subst ez29 fz29
        refine v_ekey (n' := 35) h q425 dX0_aheadTold_32 rfl (by first | assumption | exact upH_s | exact (upH_n (by assumption)).trans (by assumption) | exact (upH_n (by assumption)).trans upH_s | exact (upH_n (by assumption)).trans ((upH_n (by assumption)).trans (by assumption))) (by omega) ?_
        refine vc_callV (n' := 38) (ci := 1) h ((c_take de hp1 (Fsh hp) t2 ad1 _ _ _ _ _ te T1 (F1.fre Fre.sh) S1 (by omega) (B1.le (by omega)) hab hfee _ kT).d hde) rfl (by first | assumption | exact upH_s | exact (upH_n (by assumption)).trans (by assumption) | exact (upH_n (by assumption)).trans upH_s | exact (upH_n (by assumption)).trans ((upH_n (by assumption)).trans (by assumption))) (lw_V q729 q730 q731 q83 q732) hdX1_take ⟨by omega, by decide⟩ ⟨by omega, by omega⟩ (Nat.le_of_ble_eq_true rfl) dX0_aheadTold_35 rfl (eI fun z35 hp35 p35 => ?_) rfl
        obtain ⟨ez35, T35, F35, -⟩ := p35
        subst ez35
        refine v_bif_eq (n' := 41) (tgt := 43) h dX0_aheadTold_38 rfl rfl (fun c38 => ?_) (fun c38 => ?_)
        · refine v_iinc2 (n' := 46) h dX0_aheadTold_43 rfl rfl ?_
          refine v_goto (tgt := 17) h dX0_aheadTold_46 rfl ?_
          rw [← ej]
          rw [if_pos (lev0.mpr c38)] at e1
          exact V.widen (k2 := 41 + 12 * (j + 1)) (n2 := 170 + 264 * (j + 1)) (by omega) (by omega) (ih hp35 t2 ad1 _ (j + 1) zd (by omega) (F1.tr F35) T35 Sd (Bd.le (by omega)) (by rw [ej]; exact e1))
        · refine v_iload_n (n' := 42) h dX0_aheadTold_41 rfl rfl ?_
          refine v_iret h hq dX0_aheadTold_42 (by omega) (by omega) (ret_i ?_)
          rw [if_neg (fun z => lev0.mp z c38)] at e1; exact ⟨e1, hcr _ (F1.tr F35)⟩
  refine v_new (n' := 3) (ci := 1) h rfl in_X1 tyX1 tyX1_ok q112 q113 q83 (fs := dvX1) dvX1_ok dX0_aheadTold_0 rfl (rmC (by omega)) (rmS (by omega)) (fun a0 n0 => ?_)
  refine v_dup (n' := 4) h dX0_aheadTold_3 rfl rfl ?_
  refine vc_callIN (n' := 7) h ((c_tinit de _ a0).d hde) q116 q83 q114 q115 rfl hdX1_init ⟨by omega, by decide⟩ ⟨by omega, by omega⟩ (Nat.le_of_ble_eq_true rfl) dX0_aheadTold_4 rfl (eV fun hp4 p4 => ?_) rfl
  have p4 := p4.symm
  subst p4
  have nx : ax ≠ a0 := free_ne hx n0
  have nt : t ≠ a0 := free_ne ht n0
  have F0 : Frm (Fsh hp) hp (upH hp a0 (.inr (1, dvX1))) := Frm.up n0
  have T0 := (hH.ext F0).2.2.1
  refine v_aload_n (n' := 8) h dX0_aheadTold_7 rfl rfl ?_
  refine v_get (n' := 11) (ci := 0) h rfl in_X0 0 (by decide) q188 rfl dX0_aheadTold_8 rfl (by first | assumption | exact upH_s | exact (upH_n (by assumption)).trans (by assumption) | exact (upH_n (by assumption)).trans upH_s | exact (upH_n (by assumption)).trans ((upH_n (by assumption)).trans (by assumption))) (by rfl) ?_
  refine vc_callV (n' := 14) (ci := 1) h ((c_like de _ W t ad _ _ _ _ _ _ T0 hs hz1 a0 upH_s nt).d hde) rfl (by first | assumption | exact upH_s | exact (upH_n (by assumption)).trans (by assumption) | exact (upH_n (by assumption)).trans upH_s | exact (upH_n (by assumption)).trans ((upH_n (by assumption)).trans (by assumption))) (lw_V q824 q825 q826 q83 q827) hdX1_like ⟨by omega, by decide⟩ ⟨by omega, by omega⟩ (Nat.le_of_ble_eq_true rfl) dX0_aheadTold_11 rfl (eR fun z11 hp11 p11 => ?_) rfl
  obtain ⟨ez11, F11, ad1, T11⟩ := p11
  subst ez11
  have hw : ∀ q, (Fsh (upH hp z11 (.inr (1, dvX1))) q ∨ q = z11) → Fsh hp q := by
    intro q hq
    rcases hq with hq | hq
    · by_cases c : q = z11
      · rw [c]; exact n0
      · have hq : upH hp z11 (.inr (1, dvX1)) q = none := hq
        rw [upH_n c] at hq
        exact hq
    · rw [hq]; exact n0
  refine v_astore1 (n' := 15) h dX0_aheadTold_14 rfl rfl ?_
  refine v_iconst (n' := 16) h dX0_aheadTold_15 rfl ?_
  refine v_istore2 (n' := 17) h dX0_aheadTold_16 rfl rfl ?_
  exact loop (tz (sC s).1.1) hp11 z11 ad1 (sC s).1 0 rfl (by omega) (F0.tr (F11.wk hw)) (T11.wk hw) hs (hB.le (by omega)) eV0.symm
theorem k_ahead (de : Nat) (hp : AH) (ax : Nat) (s : SS) (n : Int) (hC : CRel de hp ax s) (hi : SInv s n) (hn : n ≤ 64) : CtE de yX0_ahead cX0_ahead 1 (some .int) (rmK 64 521 10730) [.ref ax] hp (rI (fun z hp' => z = oAhead s ∧ CRel de hp' ax s)) := by
  have hC2 := hC
  obtain ⟨W, A, t, kt, σ, ad, hH, hX⟩ := hC2
  have hr := x_r hX hi hn
  have hx := hH.1.1
  have e1 : σ.1 1 = sSh s := hX.1
  unfold oAhead
  refine CtE.of (by decide) (EL.c1 rfl EL.n0) (fun Γ h hq hnm hde => ?_)
  refine v_aload_n (n' := 1) h dX0_ahead_0 rfl rfl ?_
  refine vc_callV (n' := 4) (ci := 0) h ((c_isShelf de hp ax A t kt σ hx (by omega)).d hde) rfl (by first | assumption | exact upH_s | exact (upH_n (by assumption)).trans (by assumption) | exact (upH_n (by assumption)).trans upH_s | exact (upH_n (by assumption)).trans ((upH_n (by assumption)).trans (by assumption))) (lw_V q684 q686 qs22 q82 q687) hdX0_isShelf ⟨by omega, by decide⟩ ⟨by omega, by omega⟩ (Nat.le_of_ble_eq_true rfl) dX0_ahead_1 rfl (eI fun z1 hp1 p1 => ?_) rfl
  obtain ⟨ez1, fz1⟩ := p1
  have ez1 := ez1.symm
  have fz1 := fz1.symm
  subst ez1 fz1
  refine v_bif_eq (n' := 7) (tgt := 14) h dX0_ahead_4 rfl rfl (fun c4 => ?_) (fun c4 => ?_)
  · refine v_bipush (n' := 16) h dX0_ahead_14 rfl (by decide) ?_
    refine v_iret h hq dX0_ahead_16 (by omega) (by omega) (ret_i ?_)
    exact ⟨by rw [if_pos (by omega)], hC⟩
  · refine v_aload_n (n' := 8) h dX0_ahead_7 rfl rfl ?_
    refine vc_callV (n' := 11) (ci := 0) h ((c_aheadTold de hp ax s n hC hi hn (by omega)).d hde) rfl (by first | assumption | exact upH_s | exact (upH_n (by assumption)).trans (by assumption) | exact (upH_n (by assumption)).trans upH_s | exact (upH_n (by assumption)).trans ((upH_n (by assumption)).trans (by assumption))) (lw_V q820 q822 qs29 q82 q823) hdX0_aheadTold ⟨by omega, by decide⟩ ⟨by omega, by omega⟩ (Nat.le_of_ble_eq_true rfl) dX0_ahead_8 rfl (eI fun z8 hp8 p8 => ?_) rfl
    obtain ⟨ez8, C8⟩ := p8
    subst ez8
    refine v_goto (tgt := 16) h dX0_ahead_11 rfl ?_
    refine v_iret h hq dX0_ahead_16 (by omega) (by omega) (ret_i ?_)
    exact ⟨by rw [if_neg (by omega)], C8⟩
