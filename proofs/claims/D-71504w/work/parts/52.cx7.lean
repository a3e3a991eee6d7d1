/-! THE CLASS: tell, replay -/
set_option maxRecDepth 100000
theorem upH_id {hp : AH} {a : Nat} {e : va_E} (h : hp a = some e) : upH hp a e = hp := by
  funext q
  by_cases c : q = a
  · rw [c, upH_s, h]
  · exact upH_n c
theorem k_tell (de : Nat) (hp : AH) (ax : Nat) (s : SS) (n : Int) (hC : CRel de hp ax s) (hi : SInv s n) (hn : n ≤ 64) (key : Int) (hk : -2147483648 ≤ key ∧ key ≤ 2147483647) : CtE de yX0_tell cX0_tell 4 (some .int) (rmK 64 12 264) [.ref ax, .int (iI key)] hp (rI (fun r hp' => r = (oTell s key).1 ∧ CRel de hp' ax (oTell s key).2)) := by
  have hC2 := hC
  obtain ⟨W, A, t, kt, σ, ad, hH, hX⟩ := hC2
  have hx := hH.1.1
  have hTT := hH.2.2.1
  have ht := hTT.1
  obtain ⟨hs, hz1, hB, hk1, hab, -⟩ := tr_all hi hn
  have cf := c_find de hp W ad _ _ _ hTT.2.2 hs t _ _ _ _ _ _ _ _ _ ht key hk
  unfold oTell
  refine CtE.of (by decide) (EL.c1 rfl (EL.c1 rfl (EL.nn (EL.nn EL.n0)))) (fun Γ h hq hnm hde => ?_)
  by_cases c : there s key
  · rw [fnd_some c] at cf
    rw [if_pos c] at hq
    obtain ⟨hab, hfee⟩ := hab (sh_ne hi c.2)
    obtain ⟨kn, rfl⟩ : ∃ kn : Nat, key = (kn : Int) := ⟨key.toNat, by omega⟩
    have c2 : kn ∈ tl (sC s).1.1 := c.2
    obtain ⟨l1, r1, hcy, hWy, -, hK⟩ := hTT.2.2.at c2
    have hU : 0 ≤ (sC s).2.2.1 kn ∧ (sC s).2.2.1 kn ≤ 999 := (hi.2.2.2.2.1.2.2.2.2.1 kn c2).2
    have cf : CtE de yX1_find cX1_find 3 (some (.object "CreditShelf$Entry")) (rmK 1 0 0) [.ref t, .int (iI kn)] hp (rQ (fun o hp' => o = some (ad kn) ∧ hp' = hp)) := cf
    have hq : Rt (rI (fun r hp' => r = (sC s).2.2.1 kn ∧ CRel de hp' ax (if (sC s).2.1 kn = 3 then setC s (shTake (sA s) (sB s) (sF s) (sC s) kn) else if (sC s).2.1 kn = 2 ∧ (sC s).2.2.1 kn < 999 then setC s ((sC s).1, (sC s).2.1, fun x => if x = kn then (sC s).2.2.1 kn + 1 else (sC s).2.2.1 x, (sC s).2.2.2.1, (sC s).2.2.2.2) else s))) 12 264 Γ := hq
    have idh := upH_id hcy
    by_cases d3 : (sC s).2.1 kn = 3
    · rw [if_pos d3] at hq
      refine v_aload_n (n' := 1) h dX0_tell_0 rfl rfl ?_
      refine v_get (n' := 4) (ci := 0) h rfl in_X0 0 (by decide) q188 rfl dX0_tell_1 rfl (by first | assumption | exact upH_s | exact (upH_n (by assumption)).trans (by assumption) | exact (upH_n (by assumption)).trans upH_s | exact (upH_n (by assumption)).trans ((upH_n (by assumption)).trans (by assumption))) (by rfl) ?_
      refine v_iload_n (n' := 5) h dX0_tell_4 rfl rfl ?_
      refine vc_callV (n' := 8) (ci := 1) h ((cf).d hde) rfl (by first | assumption | exact upH_s | exact (upH_n (by assumption)).trans (by assumption) | exact (upH_n (by assumption)).trans upH_s | exact (upH_n (by assumption)).trans ((upH_n (by assumption)).trans (by assumption))) (lw_V q610 q611 q612 q83 q613) hdX1_find ⟨by omega, by decide⟩ ⟨by omega, by omega⟩ (Nat.le_of_ble_eq_true rfl) dX0_tell_5 rfl (eQ fun z5 hp5 p5 => ?_) rfl
      obtain ⟨ez5, fz5⟩ := p5
      have ez5 := ez5.symm
      have fz5 := fz5.symm
      subst ez5 fz5
      refine v_astore2Q (n' := 9) h dX0_tell_8 rfl rfl ?_
      show V Γ 0 0 hp 9 [some (.ref ax), some (.int (iI kn)), some (.ref (ad kn)), none] []
      refine v_aload_n (n' := 10) h dX0_tell_9 rfl rfl ?_
      refine v_ifnonnullR (tgt := 16) h dX0_tell_10 rfl ?_
      refine v_aload_n (n' := 17) h dX0_tell_16 rfl rfl ?_
      refine v_eval (n' := 20) h q427 dX0_tell_17 rfl (by first | assumption | exact upH_s | exact (upH_n (by assumption)).trans (by assumption) | exact (upH_n (by assumption)).trans upH_s | exact (upH_n (by assumption)).trans ((upH_n (by assumption)).trans (by assumption))) (by omega) ?_
      refine v_istore3 (n' := 21) h dX0_tell_20 rfl rfl ?_
      refine v_aload_n (n' := 22) h dX0_tell_21 rfl rfl ?_
      refine v_aload_n (n' := 23) h dX0_tell_22 rfl rfl ?_
      refine v_tellsMore (n' := 26) h (by first | assumption | exact upH_s | exact (upH_n (by assumption)).trans (by assumption) | exact (upH_n (by assumption)).trans upH_s | exact (upH_n (by assumption)).trans ((upH_n (by assumption)).trans (by assumption))) (by omega) q743 dX0_tell_23 rfl (Nat.le_of_ble_eq_true rfl) ⟨by omega, by omega⟩ (by omega) ?_
      refine v_bif_eq (n' := 29) (tgt := 41) h dX0_tell_26 rfl rfl (fun c26 => ?_) (fun c26 => ?_)
      · refine v_iload_n (n' := 42) h dX0_tell_41 rfl rfl ?_
        refine v_pval (n' := 45) h q427 dX0_tell_42 rfl (by first | assumption | exact upH_s | exact (upH_n (by assumption)).trans (by assumption) | exact (upH_n (by assumption)).trans upH_s | exact (upH_n (by assumption)).trans ((upH_n (by assumption)).trans (by assumption))) (by omega) ?_
        rw [idh]
        refine v_aload_n (n' := 46) h dX0_tell_45 rfl rfl ?_
        refine v_stays (n' := 49) h (by first | assumption | exact upH_s | exact (upH_n (by assumption)).trans (by assumption) | exact (upH_n (by assumption)).trans upH_s | exact (upH_n (by assumption)).trans ((upH_n (by assumption)).trans (by assumption))) (by omega) q755 dX0_tell_46 rfl (Nat.le_of_ble_eq_true rfl) ⟨by omega, by omega⟩ (by omega) ?_
        refine v_bif_ne (n' := 52) (tgt := 57) h dX0_tell_49 rfl rfl (fun c49 => ?_) (fun c49 => ?_)
        · omega
        · refine v_aload_n (n' := 53) h dX0_tell_52 rfl rfl ?_
          refine v_iload_n (n' := 54) h dX0_tell_53 rfl rfl ?_
          refine vc_callV (n' := 57) (ci := 0) h ((c_takeAway de hp W ax A t kt σ ad s hH hX hs hz1 hB hab hfee kn c2).d hde) rfl (by first | assumption | exact upH_s | exact (upH_n (by assumption)).trans (by assumption) | exact (upH_n (by assumption)).trans upH_s | exact (upH_n (by assumption)).trans ((upH_n (by assumption)).trans (by assumption))) (lw_V q725 q727 qs24 q82 q728) hdX0_takeAway ⟨by omega, by decide⟩ ⟨by omega, by omega⟩ (Nat.le_of_ble_eq_true rfl) dX0_tell_54 rfl (eV fun hp54 p54 => ?_) rfl
          obtain ⟨⟨σ', H54, X54⟩, l2, r2, hc54⟩ := p54
          refine v_iload_n (n' := 58) h dX0_tell_57 rfl rfl ?_
          refine v_iret h hq dX0_tell_58 (by omega) (by omega) (ret_i ?_)
          exact ⟨rfl, W, A, t, kt, σ', ad, H54, X54⟩
      · omega
    · rw [if_neg d3] at hq
      by_cases d2 : (sC s).2.1 kn = 2 ∧ (sC s).2.2.1 kn < 999
      · rw [if_pos d2] at hq
        have em : mn 999 ((sC s).2.2.1 kn + 1) = (sC s).2.2.1 kn + 1 := by unfold mn; split <;> omega
        have hTv := hTT.val c2 hcy (v := (sC s).2.2.1 kn + 1)
        refine v_aload_n (n' := 1) h dX0_tell_0 rfl rfl ?_
        refine v_get (n' := 4) (ci := 0) h rfl in_X0 0 (by decide) q188 rfl dX0_tell_1 rfl (by first | assumption | exact upH_s | exact (upH_n (by assumption)).trans (by assumption) | exact (upH_n (by assumption)).trans upH_s | exact (upH_n (by assumption)).trans ((upH_n (by assumption)).trans (by assumption))) (by rfl) ?_
        refine v_iload_n (n' := 5) h dX0_tell_4 rfl rfl ?_
        refine vc_callV (n' := 8) (ci := 1) h ((cf).d hde) rfl (by first | assumption | exact upH_s | exact (upH_n (by assumption)).trans (by assumption) | exact (upH_n (by assumption)).trans upH_s | exact (upH_n (by assumption)).trans ((upH_n (by assumption)).trans (by assumption))) (lw_V q610 q611 q612 q83 q613) hdX1_find ⟨by omega, by decide⟩ ⟨by omega, by omega⟩ (Nat.le_of_ble_eq_true rfl) dX0_tell_5 rfl (eQ fun z5 hp5 p5 => ?_) rfl
        obtain ⟨ez5, fz5⟩ := p5
        have ez5 := ez5.symm
        have fz5 := fz5.symm
        subst ez5 fz5
        refine v_astore2Q (n' := 9) h dX0_tell_8 rfl rfl ?_
        show V Γ 0 0 hp 9 [some (.ref ax), some (.int (iI kn)), some (.ref (ad kn)), none] []
        refine v_aload_n (n' := 10) h dX0_tell_9 rfl rfl ?_
        refine v_ifnonnullR (tgt := 16) h dX0_tell_10 rfl ?_
        refine v_aload_n (n' := 17) h dX0_tell_16 rfl rfl ?_
        refine v_eval (n' := 20) h q427 dX0_tell_17 rfl (by first | assumption | exact upH_s | exact (upH_n (by assumption)).trans (by assumption) | exact (upH_n (by assumption)).trans upH_s | exact (upH_n (by assumption)).trans ((upH_n (by assumption)).trans (by assumption))) (by omega) ?_
        refine v_istore3 (n' := 21) h dX0_tell_20 rfl rfl ?_
        refine v_aload_n (n' := 22) h dX0_tell_21 rfl rfl ?_
        refine v_aload_n (n' := 23) h dX0_tell_22 rfl rfl ?_
        refine v_tellsMore (n' := 26) h (by first | assumption | exact upH_s | exact (upH_n (by assumption)).trans (by assumption) | exact (upH_n (by assumption)).trans upH_s | exact (upH_n (by assumption)).trans ((upH_n (by assumption)).trans (by assumption))) (by omega) q743 dX0_tell_23 rfl (Nat.le_of_ble_eq_true rfl) ⟨by omega, by omega⟩ (by omega) ?_
        refine v_bif_eq (n' := 29) (tgt := 41) h dX0_tell_26 rfl rfl (fun c26 => ?_) (fun c26 => ?_)
        · omega
        · refine v_sipush (n' := 32) h dX0_tell_29 rfl (by decide) ?_
          refine v_iload_n (n' := 33) h dX0_tell_32 rfl rfl ?_
          refine v_iconst (n' := 34) h dX0_tell_33 rfl ?_
          refine v_iadd (n' := 35) h dX0_tell_34 rfl ?_
          refine v_mmin (n' := 38) h q754 q379 q92 q380 (rm1 (by omega)) (Nat.le_of_ble_eq_true rfl) (rmC (by omega)) (rmS (by omega)) dX0_tell_35 rfl (by omega) (by omega) ?_
          rw [em]
          refine v_goto (tgt := 42) h dX0_tell_38 rfl ?_
          refine v_pval (n' := 45) h q427 dX0_tell_42 rfl (by first | assumption | exact upH_s | exact (upH_n (by assumption)).trans (by assumption) | exact (upH_n (by assumption)).trans upH_s | exact (upH_n (by assumption)).trans ((upH_n (by assumption)).trans (by assumption))) (by omega) ?_
          refine v_aload_n (n' := 46) h dX0_tell_45 rfl rfl ?_
          refine v_stays (n' := 49) h (by first | assumption | exact upH_s | exact (upH_n (by assumption)).trans (by assumption) | exact (upH_n (by assumption)).trans upH_s | exact (upH_n (by assumption)).trans ((upH_n (by assumption)).trans (by assumption))) (by omega) q755 dX0_tell_46 rfl (Nat.le_of_ble_eq_true rfl) ⟨by omega, by omega⟩ (by omega) ?_
          refine v_bif_ne (n' := 52) (tgt := 57) h dX0_tell_49 rfl rfl (fun c49 => ?_) (fun c49 => ?_)
          · refine v_iload_n (n' := 58) h dX0_tell_57 rfl rfl ?_
            refine v_iret h hq dX0_tell_58 (by omega) (by omega) (ret_i ?_)
            exact ⟨rfl, W, A, t, kt, σ, ad, hH.tr (Frm.up hWy) hTv ⟨rfl, rfl, rfl, rfl, rfl, rfl⟩, hX⟩
          · omega
      · rw [if_neg d2] at hq
        refine v_aload_n (n' := 1) h dX0_tell_0 rfl rfl ?_
        refine v_get (n' := 4) (ci := 0) h rfl in_X0 0 (by decide) q188 rfl dX0_tell_1 rfl (by first | assumption | exact upH_s | exact (upH_n (by assumption)).trans (by assumption) | exact (upH_n (by assumption)).trans upH_s | exact (upH_n (by assumption)).trans ((upH_n (by assumption)).trans (by assumption))) (by rfl) ?_
        refine v_iload_n (n' := 5) h dX0_tell_4 rfl rfl ?_
        refine vc_callV (n' := 8) (ci := 1) h ((cf).d hde) rfl (by first | assumption | exact upH_s | exact (upH_n (by assumption)).trans (by assumption) | exact (upH_n (by assumption)).trans upH_s | exact (upH_n (by assumption)).trans ((upH_n (by assumption)).trans (by assumption))) (lw_V q610 q611 q612 q83 q613) hdX1_find ⟨by omega, by decide⟩ ⟨by omega, by omega⟩ (Nat.le_of_ble_eq_true rfl) dX0_tell_5 rfl (eQ fun z5 hp5 p5 => ?_) rfl
        obtain ⟨ez5, fz5⟩ := p5
        have ez5 := ez5.symm
        have fz5 := fz5.symm
        subst ez5 fz5
        refine v_astore2Q (n' := 9) h dX0_tell_8 rfl rfl ?_
        show V Γ 0 0 hp 9 [some (.ref ax), some (.int (iI kn)), some (.ref (ad kn)), none] []
        refine v_aload_n (n' := 10) h dX0_tell_9 rfl rfl ?_
        refine v_ifnonnullR (tgt := 16) h dX0_tell_10 rfl ?_
        refine v_aload_n (n' := 17) h dX0_tell_16 rfl rfl ?_
        refine v_eval (n' := 20) h q427 dX0_tell_17 rfl (by first | assumption | exact upH_s | exact (upH_n (by assumption)).trans (by assumption) | exact (upH_n (by assumption)).trans upH_s | exact (upH_n (by assumption)).trans ((upH_n (by assumption)).trans (by assumption))) (by omega) ?_
        refine v_istore3 (n' := 21) h dX0_tell_20 rfl rfl ?_
        refine v_aload_n (n' := 22) h dX0_tell_21 rfl rfl ?_
        refine v_aload_n (n' := 23) h dX0_tell_22 rfl rfl ?_
        refine v_tellsMore (n' := 26) h (by first | assumption | exact upH_s | exact (upH_n (by assumption)).trans (by assumption) | exact (upH_n (by assumption)).trans upH_s | exact (upH_n (by assumption)).trans ((upH_n (by assumption)).trans (by assumption))) (by omega) q743 dX0_tell_23 rfl (Nat.le_of_ble_eq_true rfl) ⟨by omega, by omega⟩ (by omega) ?_
        refine v_bif_eq (n' := 29) (tgt := 41) h dX0_tell_26 rfl rfl (fun c26 => ?_) (fun c26 => ?_)
        · refine v_iload_n (n' := 42) h dX0_tell_41 rfl rfl ?_
          refine v_pval (n' := 45) h q427 dX0_tell_42 rfl (by first | assumption | exact upH_s | exact (upH_n (by assumption)).trans (by assumption) | exact (upH_n (by assumption)).trans upH_s | exact (upH_n (by assumption)).trans ((upH_n (by assumption)).trans (by assumption))) (by omega) ?_
          rw [idh]
          refine v_aload_n (n' := 46) h dX0_tell_45 rfl rfl ?_
          refine v_stays (n' := 49) h (by first | assumption | exact upH_s | exact (upH_n (by assumption)).trans (by assumption) | exact (upH_n (by assumption)).trans upH_s | exact (upH_n (by assumption)).trans ((upH_n (by assumption)).trans (by assumption))) (by omega) q755 dX0_tell_46 rfl (Nat.le_of_ble_eq_true rfl) ⟨by omega, by omega⟩ (by omega) ?_
          refine v_bif_ne (n' := 52) (tgt := 57) h dX0_tell_49 rfl rfl (fun c49 => ?_) (fun c49 => ?_)
          · refine v_iload_n (n' := 58) h dX0_tell_57 rfl rfl ?_
            refine v_iret h hq dX0_tell_58 (by omega) (by omega) (ret_i ?_)
            exact ⟨rfl, hC⟩
          · omega
        · refine v_sipush (n' := 32) h dX0_tell_29 rfl (by decide) ?_
          refine v_iload_n (n' := 33) h dX0_tell_32 rfl rfl ?_
          refine v_iconst (n' := 34) h dX0_tell_33 rfl ?_
          refine v_iadd (n' := 35) h dX0_tell_34 rfl ?_
          refine v_mmin (n' := 38) h q754 q379 q92 q380 (rm1 (by omega)) (Nat.le_of_ble_eq_true rfl) (rmC (by omega)) (rmS (by omega)) dX0_tell_35 rfl (by omega) (by omega) ?_
          rw [show mn 999 ((sC s).2.2.1 kn + 1) = (sC s).2.2.1 kn by unfold mn; split <;> omega]
          refine v_goto (tgt := 42) h dX0_tell_38 rfl ?_
          refine v_pval (n' := 45) h q427 dX0_tell_42 rfl (by first | assumption | exact upH_s | exact (upH_n (by assumption)).trans (by assumption) | exact (upH_n (by assumption)).trans upH_s | exact (upH_n (by assumption)).trans ((upH_n (by assumption)).trans (by assumption))) (by omega) ?_
          rw [idh]
          refine v_aload_n (n' := 46) h dX0_tell_45 rfl rfl ?_
          refine v_stays (n' := 49) h (by first | assumption | exact upH_s | exact (upH_n (by assumption)).trans (by assumption) | exact (upH_n (by assumption)).trans upH_s | exact (upH_n (by assumption)).trans ((upH_n (by assumption)).trans (by assumption))) (by omega) q755 dX0_tell_46 rfl (Nat.le_of_ble_eq_true rfl) ⟨by omega, by omega⟩ (by omega) ?_
          refine v_bif_ne (n' := 52) (tgt := 57) h dX0_tell_49 rfl rfl (fun c49 => ?_) (fun c49 => ?_)
          · refine v_iload_n (n' := 58) h dX0_tell_57 rfl rfl ?_
            refine v_iret h hq dX0_tell_58 (by omega) (by omega) (ret_i ?_)
            exact ⟨rfl, hC⟩
          · omega
  · rw [fnd_none c] at cf
    rw [if_neg c] at hq
    refine v_aload_n (n' := 1) h dX0_tell_0 rfl rfl ?_
    refine v_get (n' := 4) (ci := 0) h rfl in_X0 0 (by decide) q188 rfl dX0_tell_1 rfl (by first | assumption | exact upH_s | exact (upH_n (by assumption)).trans (by assumption) | exact (upH_n (by assumption)).trans upH_s | exact (upH_n (by assumption)).trans ((upH_n (by assumption)).trans (by assumption))) (by rfl) ?_
    refine v_iload_n (n' := 5) h dX0_tell_4 rfl rfl ?_
    refine vc_callV (n' := 8) (ci := 1) h ((cf).d hde) rfl (by first | assumption | exact upH_s | exact (upH_n (by assumption)).trans (by assumption) | exact (upH_n (by assumption)).trans upH_s | exact (upH_n (by assumption)).trans ((upH_n (by assumption)).trans (by assumption))) (lw_V q610 q611 q612 q83 q613) hdX1_find ⟨by omega, by decide⟩ ⟨by omega, by omega⟩ (Nat.le_of_ble_eq_true rfl) dX0_tell_5 rfl (eQ fun z5 hp5 p5 => ?_) rfl
    obtain ⟨ez5, fz5⟩ := p5
    have ez5 := ez5.symm
    have fz5 := fz5.symm
    subst ez5 fz5
    refine v_astore2Q (n' := 9) h dX0_tell_8 rfl rfl ?_
    show V Γ 0 0 hp 9 [some (.ref ax), some (.int (iI key)), some .null, none] []
    refine v_aload_nN (n' := 10) h dX0_tell_9 rfl rfl ?_
    refine v_ifnonnullZ (n' := 13) h dX0_tell_10 rfl ?_
    refine v_bipush (n' := 15) h dX0_tell_13 rfl (by decide) ?_
    refine v_iret h hq dX0_tell_15 (by omega) (by omega) (ret_i ?_)
    exact ⟨rfl, hC⟩
theorem c_replayTold (de : Nat) (hp : AH) (ax : Nat) (s : SS) (n : Int) (hC : CRel de hp ax s) (hi : SInv s n) (hn : n ≤ 64) (hsh : sSh s ≠ 0) (a b what : Int) (hab : isRat a b) (hw : 0 ≤ what ∧ what ≤ 1) : CtE de yX0_replayTold cX0_replayTold 6 (some .int) (rmK 63 781 16090) [.ref ax, .int (iI a), .int (iI b), .int (iI what)] hp (rI (fun z hp' => z = replayV a b (sF s) (sC s).2.2.2.1 what ∧ CRel de hp' ax s)) := by
  obtain ⟨W, A, t, kt, σ, ad, hH, hX⟩ := hC
  have hr := x_r hX hi hn
  have hx := hH.1.1
  have h4 : hp (A 4) = some (aG 0 60 (σ.2 4)) := (hH.1.2.2.1 4 (by decide)).1
  have ht := hH.2.2.1.1
  obtain ⟨hs, hz1, hB, hk1, hab0, -⟩ := tr_all hi hn
  obtain ⟨-, hfee⟩ := hab0 hsh
  have hlg : CLog σ 4 5 (sC s).2.2.2.1 := hX.2.2.2.1
  have hlv : lvalid [] (sC s).2.2.2.1 := hi.2.2.2.2.1.2.2.2.2.2.1.1
  have hcr : ∀ hp', Frm (Fsh hp) hp hp' → CRel de hp' ax s := fun hp' f => ⟨W, A, t, kt, σ, ad, hH.ext f, hX⟩
  generalize hLG : (sC s).2.2.2.1 = lg at hlg hlv
  obtain ⟨g1, g2, g3⟩ := hlg
  refine CtE.of (by decide) (EL.c1 rfl (EL.c1 rfl (EL.c1 rfl (EL.c1 rfl (EL.nn (EL.nn EL.n0)))))) (fun Γ h hq hnm hde => ?_)
  have loop : ∀ (m j : Nat) (hp1 : AH) (t2 : Nat) (ad1 : Nat → Nat) (te : Tre) (S : List Nat), j + m = lg.length → Frm (Fsh hp) hp hp1 → TT hp1 (Fsh hp) t2 ad1 (fun _ => 0) (fun _ => 0) a b (sF s) te → Srt te.1 → tz te.1 ≤ 40 → TeB te (450 * (j : Int)) → S.Perm (tl te.1) → lvalid S (lg.drop j) → (lg.drop j).foldl (rpStep a b (sF s)) te = rpTe a b (sF s) lg → V Γ (1 + 13 * j) (10 + 268 * j) hp1 24 [some (.ref ax), some (.int (iI a)), some (.int (iI b)), some (.int (iI what)), some (.ref t2), some (.int (iI j))] [] := by
    intro m
    induction m with
    | zero =>
      intro j hp1 t2 ad1 te S hj F1 T1 S1 z1 B1 P1 v1 f1
      have hx1 := F1.ex hx
      have ej : j = lg.length := by omega
      rw [ej, List.drop_length] at f1
      have f1 : te = rpTe a b (sF s) lg := f1
      have ht2 := T1.1
      refine v_iload (n' := 26) h dX0_replayTold_24 rfl rfl ?_
      refine v_aload_n (n' := 27) h dX0_replayTold_26 rfl rfl ?_
      refine v_get (n' := 30) (ci := 0) h rfl in_X0 5 (by decide) q195 rfl dX0_replayTold_27 rfl (by first | assumption | exact upH_s | exact (upH_n (by assumption)).trans (by assumption) | exact (upH_n (by assumption)).trans upH_s | exact (upH_n (by assumption)).trans ((upH_n (by assumption)).trans (by assumption))) (by rfl) ?_
      refine v_icmp_ge (n' := 33) (tgt := 88) h dX0_replayTold_30 rfl rfl (by omega) (by omega) (fun c30 => ?_) (fun c30 => ?_)
      · refine v_iload_n (n' := 89) h dX0_replayTold_88 rfl rfl ?_
        refine v_if_ne (n' := 92) (tgt := 100) h dX0_replayTold_89 rfl rfl (by omega) (fun c89 => ?_) (fun c89 => ?_)
        · refine v_aload (n' := 102) h dX0_replayTold_100 rfl rfl ?_
          refine v_getN (n' := 105) (ci := 1) h rfl in_X1 0 (by decide) q119 rfl dX0_replayTold_102 rfl (by first | assumption | exact upH_s | exact (upH_n (by assumption)).trans (by assumption) | exact (upH_n (by assumption)).trans upH_s | exact (upH_n (by assumption)).trans ((upH_n (by assumption)).trans (by assumption))) (by rfl) ?_
          refine vc_callS (n' := 108) h ((c_tallOf de hp1 (Fsh hp) ad1 _ _ _ T1.2.2 40 (by omega) (by omega)).d hde) (lw_S q779 q780 q82 q781) hdX0_tallOf ⟨by omega, by decide⟩ ⟨by omega, by omega⟩ (Nat.le_of_ble_eq_true rfl) dX0_replayTold_105 rfl (eI fun z105 hp105 p105 => ?_) rfl
          obtain ⟨ez105, fz105⟩ := p105
          have ez105 := ez105.symm
          have fz105 := fz105.symm
          subst ez105 fz105
          refine v_iret h hq dX0_replayTold_108 (by omega) (by omega) (ret_i ?_)
          exact ⟨by unfold replayV; rw [if_neg (by omega), ← f1], hcr _ F1⟩
        · refine v_aload (n' := 94) h dX0_replayTold_92 rfl rfl ?_
          refine v_getN (n' := 97) (ci := 1) h rfl in_X1 9 (by decide) q137 rfl dX0_replayTold_94 rfl (by first | assumption | exact upH_s | exact (upH_n (by assumption)).trans (by assumption) | exact (upH_n (by assumption)).trans upH_s | exact (upH_n (by assumption)).trans ((upH_n (by assumption)).trans (by assumption))) (by rfl) ?_
          refine v_goto (tgt := 108) h dX0_replayTold_97 rfl ?_
          refine v_iret h hq dX0_replayTold_108 (by omega) (by omega) (ret_i ?_)
          exact ⟨by unfold replayV; rw [if_pos (by omega), ← f1], hcr _ F1⟩
      · omega
    | succ m ih =>
      intro j hp1 t2 ad1 te S hj F1 T1 S1 z1 B1 P1 v1 f1
      have hx1 := F1.ex hx
      have h41 := F1.ex h4
      have ht2 := T1.1
      have ed : lg.drop j = lg.getD j 0 :: lg.drop (j + 1) := by
        rw [List.drop_eq_getElem_cons (by omega), List.getD_eq_getElem?_getD, List.getElem?_eq_getElem (by omega)]
        rfl
      rw [ed] at v1 f1
      obtain ⟨v0, v1⟩ := v1
      have f1 : (lg.drop (j + 1)).foldl (rpStep a b (sF s)) (rpStep a b (sF s) te (lg.getD j 0)) = rpTe a b (sF s) lg := f1
      have sp := step_perm (a := a) (b := b) (fee := sF s) S1 P1 v0
      have ge := g3 j (by omega)
      have ej : ((j + 1 : Nat) : Int) = (j : Int) + 1 := by omega
      have lenP := P1.length_eq
      rw [tz_len] at lenP
      generalize hxx : lg.getD j 0 = xx at v0 v1 f1 sp ge
      unfold enc at ge
      by_cases cx : xx < 0
      · rw [if_pos cx] at v0 ge
        have kT : (-1 - xx).toNat ∈ tl te.1 := P1.mem_iff.mp v0.1
        have e1 : rpStep a b (sF s) te xx = teLeave a b (sF s) te (-1 - xx).toNat := if_pos cx
        rw [e1] at f1 sp
        have h1z : 1 ≤ tz te.1 := by rw [← tz_len]; exact List.length_pos_of_mem kT
        have Sd : Srt (teLeave a b (sF s) te (-1 - xx).toNat).1 := srt_tl levR_tl (del_srt S1)
        have zd : tz (teLeave a b (sF s) te (-1 - xx).toNat).1 ≤ 40 := by
          have := del_tz S1 kT
          have q : tz (teLeave a b (sF s) te (-1 - xx).toNat).1 = tz (del te.1 (-1 - xx).toNat) := tz_tl levR_tl
          omega
        have Bd := teLeave_B (a := a) (b := b) (k := (-1 - xx).toNat) B1 (by omega) z1 h1z hfee
        have eo : 99 - xx - 100 = (((-1 - xx).toNat : Nat) : Int) := by omega
        refine v_iload (n' := 26) h dX0_replayTold_24 rfl rfl ?_
        refine v_aload_n (n' := 27) h dX0_replayTold_26 rfl rfl ?_
        refine v_get (n' := 30) (ci := 0) h rfl in_X0 5 (by decide) q195 rfl dX0_replayTold_27 rfl (by first | assumption | exact upH_s | exact (upH_n (by assumption)).trans (by assumption) | exact (upH_n (by assumption)).trans upH_s | exact (upH_n (by assumption)).trans ((upH_n (by assumption)).trans (by assumption))) (by rfl) ?_
        refine v_icmp_ge (n' := 33) (tgt := 88) h dX0_replayTold_30 rfl rfl (by omega) (by omega) (fun c30 => ?_) (fun c30 => ?_)
        · omega
        · refine v_aload_n (n' := 34) h dX0_replayTold_33 rfl rfl ?_
          refine v_get (n' := 37) (ci := 0) h rfl in_X0 4 (by decide) q194 rfl dX0_replayTold_34 rfl (by first | assumption | exact upH_s | exact (upH_n (by assumption)).trans (by assumption) | exact (upH_n (by assumption)).trans upH_s | exact (upH_n (by assumption)).trans ((upH_n (by assumption)).trans (by assumption))) (by rfl) ?_
          refine v_iload (n' := 39) h dX0_replayTold_37 rfl rfl ?_
          refine v_giald (n' := 40) h dX0_replayTold_39 rfl (by first | assumption | exact upH_s | exact (upH_n (by assumption)).trans (by assumption) | exact (upH_n (by assumption)).trans upH_s | exact (upH_n (by assumption)).trans ((upH_n (by assumption)).trans (by assumption))) (by omega) (by omega) ?_
          rw [ge]
          refine v_bipush (n' := 42) h dX0_replayTold_40 rfl (by decide) ?_
          refine v_icmp_ge (n' := 45) (tgt := 66) h dX0_replayTold_42 rfl rfl (by omega) (by omega) (fun c42 => ?_) (fun c42 => ?_)
          · refine v_aload (n' := 68) h dX0_replayTold_66 rfl rfl ?_
            refine v_aload_n (n' := 69) h dX0_replayTold_68 rfl rfl ?_
            refine v_get (n' := 72) (ci := 0) h rfl in_X0 4 (by decide) q194 rfl dX0_replayTold_69 rfl (by first | assumption | exact upH_s | exact (upH_n (by assumption)).trans (by assumption) | exact (upH_n (by assumption)).trans upH_s | exact (upH_n (by assumption)).trans ((upH_n (by assumption)).trans (by assumption))) (by rfl) ?_
            refine v_iload (n' := 74) h dX0_replayTold_72 rfl rfl ?_
            refine v_giald (n' := 75) h dX0_replayTold_74 rfl (by first | assumption | exact upH_s | exact (upH_n (by assumption)).trans (by assumption) | exact (upH_n (by assumption)).trans upH_s | exact (upH_n (by assumption)).trans ((upH_n (by assumption)).trans (by assumption))) (by omega) (by omega) ?_
            rw [ge]
            refine v_bipush (n' := 77) h dX0_replayTold_75 rfl (by decide) ?_
            refine v_isub (n' := 78) h dX0_replayTold_77 rfl ?_
            rw [eo]
            refine vc_callV (n' := 81) (ci := 1) h ((c_take de hp1 (Fsh hp) t2 ad1 _ _ a b (sF s) te T1 (F1.fre Fre.sh) S1 z1 (B1.le (by omega)) hab hfee _ kT).d hde) rfl (by first | assumption | exact upH_s | exact (upH_n (by assumption)).trans (by assumption) | exact (upH_n (by assumption)).trans upH_s | exact (upH_n (by assumption)).trans ((upH_n (by assumption)).trans (by assumption))) (lw_V q729 q730 q731 q83 q732) hdX1_take ⟨by omega, by decide⟩ ⟨by omega, by omega⟩ (Nat.le_of_ble_eq_true rfl) dX0_replayTold_78 rfl (eI fun z78 hp78 p78 => ?_) rfl
            obtain ⟨ez78, T78, F78, -⟩ := p78
            subst ez78
            refine v_pop (n' := 82) h dX0_replayTold_81 rfl rfl ?_
            refine v_iinc5 (n' := 85) h dX0_replayTold_82 rfl rfl ?_
            refine v_goto (tgt := 24) h dX0_replayTold_85 rfl ?_
            rw [← ej]
            exact V.widen (k2 := 1 + 13 * (j + 1)) (n2 := 10 + 268 * (j + 1)) (by omega) (by omega) (ih (j + 1) hp78 t2 ad1 _ _ (by omega) (F1.tr F78) T78 Sd zd (Bd.le (by omega)) sp v1 f1)
          · omega
      · rw [if_neg cx] at v0 ge
        obtain ⟨xn, rfl⟩ : ∃ xn : Nat, xx = (xn : Int) := ⟨xx.toNat, by omega⟩
        have kT : xn ∉ tl te.1 := fun z => v0.2.1 (P1.mem_iff.mpr z)
        have e1 : rpStep a b (sF s) te (xn : Int) = teEnter a b (sF s) te xn := if_neg cx
        rw [e1] at f1 sp
        have hz40 : tz te.1 < 40 := by have := v0.2.2; omega
        have Sd : Srt (teEnter a b (sF s) te xn).1 := srt_tl (entR_tl S1 kT) (ins_srt S1 kT)
        have zd : tz (teEnter a b (sF s) te xn).1 ≤ 40 := by
          have q : tz (teEnter a b (sF s) te xn).1 = tz (ins te.1 xn) := tz_tl (entR_tl S1 kT)
          rw [ins_tz] at q
          omega
        have Bd := teEnter_B (a := a) (b := b) (k := xn) B1 (by omega) hz40 hfee
        have ek : (fun y => if y = xn then ((0 : Nat) : Int) else 0) = fun _ : Nat => (0 : Int) := by funext y; split <;> rfl
        have eu : (fun y => if y = xn then (0 : Int) else 0) = fun _ : Nat => (0 : Int) := by funext y; split <;> rfl
        refine v_iload (n' := 26) h dX0_replayTold_24 rfl rfl ?_
        refine v_aload_n (n' := 27) h dX0_replayTold_26 rfl rfl ?_
        refine v_get (n' := 30) (ci := 0) h rfl in_X0 5 (by decide) q195 rfl dX0_replayTold_27 rfl (by first | assumption | exact upH_s | exact (upH_n (by assumption)).trans (by assumption) | exact (upH_n (by assumption)).trans upH_s | exact (upH_n (by assumption)).trans ((upH_n (by assumption)).trans (by assumption))) (by rfl) ?_
        refine v_icmp_ge (n' := 33) (tgt := 88) h dX0_replayTold_30 rfl rfl (by omega) (by omega) (fun c30 => ?_) (fun c30 => ?_)
        · omega
        · refine v_aload_n (n' := 34) h dX0_replayTold_33 rfl rfl ?_
          refine v_get (n' := 37) (ci := 0) h rfl in_X0 4 (by decide) q194 rfl dX0_replayTold_34 rfl (by first | assumption | exact upH_s | exact (upH_n (by assumption)).trans (by assumption) | exact (upH_n (by assumption)).trans upH_s | exact (upH_n (by assumption)).trans ((upH_n (by assumption)).trans (by assumption))) (by rfl) ?_
          refine v_iload (n' := 39) h dX0_replayTold_37 rfl rfl ?_
          refine v_giald (n' := 40) h dX0_replayTold_39 rfl (by first | assumption | exact upH_s | exact (upH_n (by assumption)).trans (by assumption) | exact (upH_n (by assumption)).trans upH_s | exact (upH_n (by assumption)).trans ((upH_n (by assumption)).trans (by assumption))) (by omega) (by omega) ?_
          rw [ge]
          refine v_bipush (n' := 42) h dX0_replayTold_40 rfl (by decide) ?_
          refine v_icmp_ge (n' := 45) (tgt := 66) h dX0_replayTold_42 rfl rfl (by omega) (by omega) (fun c42 => ?_) (fun c42 => ?_)
          · omega
          · refine v_aload (n' := 47) h dX0_replayTold_45 rfl rfl ?_
            refine v_iconst (n' := 48) h dX0_replayTold_47 rfl ?_
            refine v_aload_n (n' := 49) h dX0_replayTold_48 rfl rfl ?_
            refine v_get (n' := 52) (ci := 0) h rfl in_X0 4 (by decide) q194 rfl dX0_replayTold_49 rfl (by first | assumption | exact upH_s | exact (upH_n (by assumption)).trans (by assumption) | exact (upH_n (by assumption)).trans upH_s | exact (upH_n (by assumption)).trans ((upH_n (by assumption)).trans (by assumption))) (by rfl) ?_
            refine v_iload (n' := 54) h dX0_replayTold_52 rfl rfl ?_
            refine v_giald (n' := 55) h dX0_replayTold_54 rfl (by first | assumption | exact upH_s | exact (upH_n (by assumption)).trans (by assumption) | exact (upH_n (by assumption)).trans upH_s | exact (upH_n (by assumption)).trans ((upH_n (by assumption)).trans (by assumption))) (by omega) (by omega) ?_
            rw [ge]
            refine v_iconst (n' := 56) h dX0_replayTold_55 rfl ?_
            refine vc_callS (n' := 59) h ((c_made de hp1 0 (xn : Int) 0 (by decide)).d hde) (lw_S q710 q413 q82 q414) hdX0_made ⟨by omega, by decide⟩ ⟨by omega, by omega⟩ (Nat.le_of_ble_eq_true rfl) dX0_replayTold_56 rfl (eR fun z56 hp56 p56 => ?_) rfl
            obtain ⟨n56, p56⟩ := p56
            subst p56
            have F56 : Frm (Fsh hp) hp1 (upH hp1 z56 (eO 0 (xn : Int) 0 none none)) := Frm.up ((F1.fre Fre.sh) z56 n56)
            have T56 := T1.keep (hp' := upH hp1 z56 (eO 0 (xn : Int) 0 none none)) (fun q c hq _ => (upH_n (free_ne hq n56)).trans hq)
            have ht56 := T56.1
            have c59 := c_put de _ (Fsh hp) t2 ad1 _ _ a b (sF s) te T56 ((F1.tr F56).fre Fre.sh) S1 hz40 (B1.le (by omega)) hab hfee xn 0 z56 0 kT (by have := v0.1; omega) (by decide) upH_s ((F1.fre Fre.sh) z56 n56)
            rw [ek, eu] at c59
            refine vc_callV (n' := 62) (ci := 1) h ((c59).d hde) rfl (by first | assumption | exact upH_s | exact (upH_n (by assumption)).trans (by assumption) | exact (upH_n (by assumption)).trans upH_s | exact (upH_n (by assumption)).trans ((upH_n (by assumption)).trans (by assumption))) (lw_V q560 q561 q562 q83 q563) hdX1_put ⟨by omega, by decide⟩ ⟨by omega, by omega⟩ (Nat.le_of_ble_eq_true rfl) dX0_replayTold_59 rfl (eI fun z59 hp59 p59 => ?_) rfl
            obtain ⟨ez59, T59, F59⟩ := p59
            subst ez59
            refine v_pop (n' := 63) h dX0_replayTold_62 rfl rfl ?_
            refine v_goto (tgt := 82) h dX0_replayTold_63 rfl ?_
            refine v_iinc5 (n' := 85) h dX0_replayTold_82 rfl rfl ?_
            refine v_goto (tgt := 24) h dX0_replayTold_85 rfl ?_
            rw [← ej]
            exact V.widen (k2 := 1 + 13 * (j + 1)) (n2 := 10 + 268 * (j + 1)) (by omega) (by omega) (ih (j + 1) hp59 t2 _ _ _ (by omega) ((F1.tr F56).tr F59) T59 Sd zd (Bd.le (by omega)) sp v1 f1)
  refine v_new (n' := 3) (ci := 1) h rfl in_X1 tyX1 tyX1_ok q112 q113 q83 (fs := dvX1) dvX1_ok dX0_replayTold_0 rfl (rmC (by omega)) (rmS (by omega)) (fun a0 n0 => ?_)
  refine v_dup (n' := 4) h dX0_replayTold_3 rfl rfl ?_
  refine vc_callIN (n' := 7) h ((c_tinit de _ a0).d hde) q116 q83 q114 q115 rfl hdX1_init ⟨by omega, by decide⟩ ⟨by omega, by omega⟩ (Nat.le_of_ble_eq_true rfl) dX0_replayTold_4 rfl (eV fun hp4 p4 => ?_) rfl
  have p4 := p4.symm
  subst p4
  have nx : ax ≠ a0 := free_ne hx n0
  have nt : t ≠ a0 := free_ne ht n0
  refine v_iload_n (n' := 8) h dX0_replayTold_7 rfl rfl ?_
  refine v_iload_n (n' := 9) h dX0_replayTold_8 rfl rfl ?_
  refine v_aload_n (n' := 10) h dX0_replayTold_9 rfl rfl ?_
  refine v_get (n' := 13) (ci := 0) h rfl in_X0 0 (by decide) q188 rfl dX0_replayTold_10 rfl (by first | assumption | exact upH_s | exact (upH_n (by assumption)).trans (by assumption) | exact (upH_n (by assumption)).trans upH_s | exact (upH_n (by assumption)).trans ((upH_n (by assumption)).trans (by assumption))) (by rfl) ?_
  refine v_getN (n' := 16) (ci := 1) h rfl in_X1 3 (by decide) q125 rfl dX0_replayTold_13 rfl (by first | assumption | exact upH_s | exact (upH_n (by assumption)).trans (by assumption) | exact (upH_n (by assumption)).trans upH_s | exact (upH_n (by assumption)).trans ((upH_n (by assumption)).trans (by assumption))) (by rfl) ?_
  refine vc_callV (n' := 19) (ci := 1) h ((c_empty de _ a0 upH_s a b (sF s)).d hde) rfl (by first | assumption | exact upH_s | exact (upH_n (by assumption)).trans (by assumption) | exact (upH_n (by assumption)).trans upH_s | exact (upH_n (by assumption)).trans ((upH_n (by assumption)).trans (by assumption))) (lw_V q546 q547 q548 q83 q549) hdX1_empty ⟨by omega, by decide⟩ ⟨by omega, by omega⟩ (Nat.le_of_ble_eq_true rfl) dX0_replayTold_16 rfl (eR fun z16 hp16 p16 => ?_) rfl
  obtain ⟨ez16, p16⟩ := p16
  subst ez16
  subst p16
  rw [upH_up]
  refine v_astore4 (n' := 21) h dX0_replayTold_19 rfl rfl ?_
  refine v_iconst (n' := 22) h dX0_replayTold_21 rfl ?_
  refine v_istore5 (n' := 24) h dX0_replayTold_22 rfl rfl ?_
  exact loop lg.length 0 _ z16 ad te0 [] (by omega) (Frm.up n0) ⟨upH_s, n0, trivial⟩ List.Pairwise.nil (Nat.zero_le _) ⟨by decide, by decide, by decide, by decide, by decide⟩ (List.Perm.refl _) hlv rfl
theorem k_replay (de : Nat) (hp : AH) (ax : Nat) (s : SS) (n : Int) (hC : CRel de hp ax s) (hi : SInv s n) (hn : n ≤ 64) (a b what : Int) (ha : -2147483648 ≤ a ∧ a ≤ 2147483647) (hb : -2147483648 ≤ b ∧ b ≤ 2147483647) (hw : -2147483648 ≤ what ∧ what ≤ 2147483647) : CtE de yX0_replay cX0_replay 4 (some .int) (rmK 64 781 16090) [.ref ax, .int (iI a), .int (iI b), .int (iI what)] hp (rI (fun z hp' => z = oReplay s a b what ∧ CRel de hp' ax s)) := by
  have hC2 := hC
  obtain ⟨W, A, t, kt, σ, ad, hH, hX⟩ := hC2
  have hr := x_r hX hi hn
  have hx := hH.1.1
  have e1 : σ.1 1 = sSh s := hX.1
  unfold oReplay
  refine CtE.of (by decide) (EL.c1 rfl (EL.c1 rfl (EL.c1 rfl (EL.c1 rfl EL.n0)))) (fun Γ h hq hnm hde => ?_)
  refine v_iload_n (n' := 1) h dX0_replay_0 rfl rfl ?_
  refine v_iload_n (n' := 2) h dX0_replay_1 rfl rfl ?_
  refine vc_callS (n' := 5) h ((c_isRatio de hp a b ha hb).d hde) (lw_S q809 q810 q82 q811) hdX0_isRatio ⟨by omega, by decide⟩ ⟨by omega, by omega⟩ (Nat.le_of_ble_eq_true rfl) dX0_replay_2 rfl (eI fun z2 hp2 p2 => ?_) rfl
  obtain ⟨ez2, fz2⟩ := p2
  have ez2 := ez2.symm
  have fz2 := fz2.symm
  subst ez2 fz2
  refine v_bif_eq (n' := 8) (tgt := 17) h dX0_replay_5 rfl rfl (fun c5 => ?_) (fun c5 => ?_)
  · refine v_bipush (n' := 19) h dX0_replay_17 rfl (by decide) ?_
    refine v_iret h hq dX0_replay_19 (by omega) (by omega) (ret_i ?_)
    exact ⟨(if_pos (fun z => c5 z.2.1)).symm, hC⟩
  · refine v_iload_n (n' := 9) h dX0_replay_8 rfl rfl ?_
    refine v_iconst (n' := 10) h dX0_replay_9 rfl ?_
    refine v_iconst (n' := 11) h dX0_replay_10 rfl ?_
    refine vc_callS (n' := 14) h ((c_in de hp what 0 1 hw (by omega) (by omega)).d hde) (lw_S q255 q256 q82 q257) hdX0_in ⟨by omega, by decide⟩ ⟨by omega, by omega⟩ (Nat.le_of_ble_eq_true rfl) dX0_replay_11 rfl (eI fun z11 hp11 p11 => ?_) rfl
    obtain ⟨ez11, fz11⟩ := p11
    have ez11 := ez11.symm
    have fz11 := fz11.symm
    subst ez11 fz11
    refine v_bif_ne (n' := 17) (tgt := 20) h dX0_replay_14 rfl rfl (fun c14 => ?_) (fun c14 => ?_)
    · refine v_aload_n (n' := 21) h dX0_replay_20 rfl rfl ?_
      refine vc_callV (n' := 24) (ci := 0) h ((c_isShelf de hp ax A t kt σ hx (by omega)).d hde) rfl (by first | assumption | exact upH_s | exact (upH_n (by assumption)).trans (by assumption) | exact (upH_n (by assumption)).trans upH_s | exact (upH_n (by assumption)).trans ((upH_n (by assumption)).trans (by assumption))) (lw_V q684 q686 qs22 q82 q687) hdX0_isShelf ⟨by omega, by decide⟩ ⟨by omega, by omega⟩ (Nat.le_of_ble_eq_true rfl) dX0_replay_21 rfl (eI fun z21 hp21 p21 => ?_) rfl
      obtain ⟨ez21, fz21⟩ := p21
      have ez21 := ez21.symm
      have fz21 := fz21.symm
      subst ez21 fz21
      refine v_bif_eq (n' := 27) (tgt := 37) h dX0_replay_24 rfl rfl (fun c24 => ?_) (fun c24 => ?_)
      · refine v_bipush (n' := 39) h dX0_replay_37 rfl (by decide) ?_
        refine v_iret h hq dX0_replay_39 (by omega) (by omega) (ret_i ?_)
        exact ⟨by rw [if_neg (fun z => z ⟨by have q := c5; unfold isRat at q; omega, c5, by omega⟩), if_pos (by omega)], hC⟩
      · refine v_aload_n (n' := 28) h dX0_replay_27 rfl rfl ?_
        refine v_iload_n (n' := 29) h dX0_replay_28 rfl rfl ?_
        refine v_iload_n (n' := 30) h dX0_replay_29 rfl rfl ?_
        refine v_iload_n (n' := 31) h dX0_replay_30 rfl rfl ?_
        refine vc_callV (n' := 34) (ci := 0) h ((c_replayTold de hp ax s n hC hi hn (by omega) a b what c5 (by omega)).d hde) rfl (by first | assumption | exact upH_s | exact (upH_n (by assumption)).trans (by assumption) | exact (upH_n (by assumption)).trans upH_s | exact (upH_n (by assumption)).trans ((upH_n (by assumption)).trans (by assumption))) (lw_V q812 q814 qs28 q82 q815) hdX0_replayTold ⟨by omega, by decide⟩ ⟨by omega, by omega⟩ (Nat.le_of_ble_eq_true rfl) dX0_replay_31 rfl (eI fun z31 hp31 p31 => ?_) rfl
        obtain ⟨ez31, C31⟩ := p31
        subst ez31
        refine v_goto (tgt := 39) h dX0_replay_34 rfl ?_
        refine v_iret h hq dX0_replay_39 (by omega) (by omega) (ret_i ?_)
        exact ⟨by rw [if_neg (fun z => z ⟨by have q := c5; unfold isRat at q; omega, c5, by omega⟩), if_neg (by omega)], C31⟩
    · refine v_bipush (n' := 19) h dX0_replay_17 rfl (by decide) ?_
      refine v_iret h hq dX0_replay_19 (by omega) (by omega) (ret_i ?_)
      exact ⟨(if_pos (fun z => by have := z.2.2; omega)).symm, hC⟩
