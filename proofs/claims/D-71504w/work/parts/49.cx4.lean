/-! THE CLASS: dear, what is done -/
set_option maxRecDepth 100000
theorem c_dearTold (de : Nat) (hp : AH) (ax : Nat) (s : SS) (n : Int) (hC : CRel de hp ax s) (hi : SInv s n) (hn : n ≤ 64) (hsh : sSh s ≠ 0) (what : Int) (hw : 0 ≤ what ∧ what ≤ 1) : CtE de yX0_dearTold cX0_dearTold 6 (some .int) (rmK 53 600 13200) [.ref ax, .int (iI what)] hp (rI (fun z hp' => z = dearV (sA s) (sB s) (sC s).1.1 what ∧ CRel de hp' ax s)) := by
  obtain ⟨hs, hz1, hB, hk1, hab, -⟩ := tr_all hi hn
  unfold dearV
  by_cases h40 : tz (sC s).1.1 = 40
  · obtain ⟨W, A, t, kt, σ, ad, hH, hX⟩ := hC
    have hx := hH.1.1
    have ht := hH.2.2.1.1
    rw [if_pos h40]
    refine CtE.of (by decide) (EL.c1 rfl (EL.c1 rfl (EL.nn (EL.nn (EL.nn (EL.nn EL.n0)))))) (fun Γ h hq hnm hde => ?_)
    refine v_iconst (n' := 1) h dX0_dearTold_0 rfl ?_
    refine v_istore2 (n' := 2) h dX0_dearTold_1 rfl rfl ?_
    refine v_iconst (n' := 3) h dX0_dearTold_2 rfl ?_
    refine v_istore3 (n' := 4) h dX0_dearTold_3 rfl rfl ?_
    refine v_iconst (n' := 5) h dX0_dearTold_4 rfl ?_
    refine v_istore4 (n' := 7) h dX0_dearTold_5 rfl rfl ?_
    refine v_iload (n' := 9) h dX0_dearTold_7 rfl rfl ?_
    refine v_bipush (n' := 11) h dX0_dearTold_9 rfl (by decide) ?_
    refine v_icmp_ge (n' := 14) (tgt := 60) h dX0_dearTold_11 rfl rfl (by omega) (by omega) (fun c11 => ?_) (fun c11 => ?_)
    · omega
    · refine v_aload_n (n' := 15) h dX0_dearTold_14 rfl rfl ?_
      refine v_get (n' := 18) (ci := 0) h rfl in_X0 0 (by decide) q188 rfl dX0_dearTold_15 rfl (by first | assumption | exact upH_s | exact (upH_n (by assumption)).trans (by assumption) | exact (upH_n (by assumption)).trans upH_s | exact (upH_n (by assumption)).trans ((upH_n (by assumption)).trans (by assumption))) (by rfl) ?_
      refine v_getN (n' := 21) (ci := 1) h rfl in_X1 4 (by decide) q127 rfl dX0_dearTold_18 rfl (by first | assumption | exact upH_s | exact (upH_n (by assumption)).trans (by assumption) | exact (upH_n (by assumption)).trans upH_s | exact (upH_n (by assumption)).trans ((upH_n (by assumption)).trans (by assumption))) (by rfl) ?_
      refine v_bipush (n' := 23) h dX0_dearTold_21 rfl (by decide) ?_
      refine v_icmp_ge (n' := 26) (tgt := 60) h dX0_dearTold_23 rfl rfl (by omega) (by omega) (fun c23 => ?_) (fun c23 => ?_)
      · refine v_iload_n (n' := 61) h dX0_dearTold_60 rfl rfl ?_
        refine v_if_ne (n' := 64) (tgt := 68) h dX0_dearTold_61 rfl rfl (by omega) (fun c61 => ?_) (fun c61 => ?_)
        · refine v_iload_n (n' := 69) h dX0_dearTold_68 rfl rfl ?_
          refine v_iret h hq dX0_dearTold_69 (by omega) (by omega) (ret_i ?_)
          exact ⟨rfl, W, A, t, kt, σ, ad, hH, hX⟩
        · refine v_iload_n (n' := 65) h dX0_dearTold_64 rfl rfl ?_
          refine v_goto (tgt := 69) h dX0_dearTold_65 rfl ?_
          refine v_iret h hq dX0_dearTold_69 (by omega) (by omega) (ret_i ?_)
          exact ⟨rfl, W, A, t, kt, σ, ad, hH, hX⟩
      · omega
  · rw [if_neg h40]
    refine CtE.of (by decide) (EL.c1 rfl (EL.c1 rfl (EL.nn (EL.nn (EL.nn (EL.nn EL.n0)))))) (fun Γ h hq hnm hde => ?_)
    have loop : ∀ (j k : Nat) (hp1 : AH) (v5 : Option Value), k + j = 100 → CRel de hp1 ax s → V Γ (6 * k) (132 * k) hp1 7 [some (.ref ax), some (.int (iI what)), some (.int (iI (dearF (sA s) (sB s) (sC s).1.1 k).1)), some (.int (iI (dearF (sA s) (sB s) (sC s).1.1 k).2)), some (.int (iI k)), v5] [] := by
      intro j
      induction j with
      | zero =>
        intro k hp1 v5 hkj hC1
        obtain rfl : k = 100 := by omega
        refine v_iload (n' := 9) h dX0_dearTold_7 rfl rfl ?_
        refine v_bipush (n' := 11) h dX0_dearTold_9 rfl (by decide) ?_
        refine v_icmp_ge (n' := 14) (tgt := 60) h dX0_dearTold_11 rfl rfl (by omega) (by omega) (fun c11 => ?_) (fun c11 => ?_)
        · refine v_iload_n (n' := 61) h dX0_dearTold_60 rfl rfl ?_
          refine v_if_ne (n' := 64) (tgt := 68) h dX0_dearTold_61 rfl rfl (by omega) (fun c61 => ?_) (fun c61 => ?_)
          · refine v_iload_n (n' := 69) h dX0_dearTold_68 rfl rfl ?_
            refine v_iret h hq dX0_dearTold_69 (by omega) (by omega) (ret_i ?_)
            exact ⟨by rw [if_neg (by omega)], hC1⟩
          · refine v_iload_n (n' := 65) h dX0_dearTold_64 rfl rfl ?_
            refine v_goto (tgt := 69) h dX0_dearTold_65 rfl ?_
            refine v_iret h hq dX0_dearTold_69 (by omega) (by omega) (ret_i ?_)
            exact ⟨by rw [if_pos (by omega)], hC1⟩
        · omega
      | succ j ih =>
        intro k hp1 v5 hkj hC1
        have hC2 := hC1
        obtain ⟨W, A, t, kt, σ, ad, hH, hX⟩ := hC2
        have hx := hH.1.1
        have ht := hH.2.2.1.1
        have hd := dearF_r (a := sA s) (b := sB s) (T := (sC s).1.1) (by omega) k (by omega)
        have hwv := wouldV_r (a := sA s) (b := sB s) (T := (sC s).1.1) (k := k) (by omega)
        have e1 : dearF (sA s) (sB s) (sC s).1.1 (k + 1) = if (dearF (sA s) (sB s) (sC s).1.1 k).2 < wouldV (sA s) (sB s) (sC s).1.1 k then ((k : Int), wouldV (sA s) (sB s) (sC s).1.1 k) else dearF (sA s) (sB s) (sC s).1.1 k := rfl
        have ek : ((k + 1 : Nat) : Int) = (k : Int) + 1 := by omega
        refine v_iload (n' := 9) h dX0_dearTold_7 rfl rfl ?_
        refine v_bipush (n' := 11) h dX0_dearTold_9 rfl (by decide) ?_
        refine v_icmp_ge (n' := 14) (tgt := 60) h dX0_dearTold_11 rfl rfl (by omega) (by omega) (fun c11 => ?_) (fun c11 => ?_)
        · omega
        · refine v_aload_n (n' := 15) h dX0_dearTold_14 rfl rfl ?_
          refine v_get (n' := 18) (ci := 0) h rfl in_X0 0 (by decide) q188 rfl dX0_dearTold_15 rfl (by first | assumption | exact upH_s | exact (upH_n (by assumption)).trans (by assumption) | exact (upH_n (by assumption)).trans upH_s | exact (upH_n (by assumption)).trans ((upH_n (by assumption)).trans (by assumption))) (by rfl) ?_
          refine v_getN (n' := 21) (ci := 1) h rfl in_X1 4 (by decide) q127 rfl dX0_dearTold_18 rfl (by first | assumption | exact upH_s | exact (upH_n (by assumption)).trans (by assumption) | exact (upH_n (by assumption)).trans upH_s | exact (upH_n (by assumption)).trans ((upH_n (by assumption)).trans (by assumption))) (by rfl) ?_
          refine v_bipush (n' := 23) h dX0_dearTold_21 rfl (by decide) ?_
          refine v_icmp_ge (n' := 26) (tgt := 60) h dX0_dearTold_23 rfl rfl (by omega) (by omega) (fun c23 => ?_) (fun c23 => ?_)
          · omega
          · refine v_aload_n (n' := 27) h dX0_dearTold_26 rfl rfl ?_
            refine v_iload (n' := 29) h dX0_dearTold_27 rfl rfl ?_
            refine vc_callV (n' := 32) (ci := 0) h ((c_wouldBuild de hp1 ax s n hC1 hi hn hsh (by omega) k (by omega)).d hde) rfl (by first | assumption | exact upH_s | exact (upH_n (by assumption)).trans (by assumption) | exact (upH_n (by assumption)).trans upH_s | exact (upH_n (by assumption)).trans ((upH_n (by assumption)).trans (by assumption))) (lw_V q789 q791 qs26 q82 q792) hdX0_wouldBuild ⟨by omega, by decide⟩ ⟨by omega, by omega⟩ (Nat.le_of_ble_eq_true rfl) dX0_dearTold_29 rfl (eI fun z29 hp29 p29 => ?_) rfl
            obtain ⟨ez29, F29⟩ := p29
            subst ez29
            have hC29 : CRel de hp29 ax s := ⟨W, A, t, kt, σ, ad, hH.ext F29, hX⟩
            refine v_istore5 (n' := 34) h dX0_dearTold_32 rfl rfl ?_
            refine v_iload (n' := 36) h dX0_dearTold_34 rfl rfl ?_
            refine v_iload_n (n' := 37) h dX0_dearTold_36 rfl rfl ?_
            refine v_icmp_le (n' := 40) (tgt := 45) h dX0_dearTold_37 rfl rfl (by omega) (by omega) (fun c37 => ?_) (fun c37 => ?_)
            · refine v_iload_n (n' := 46) h dX0_dearTold_45 rfl rfl ?_
              refine v_istore2 (n' := 47) h dX0_dearTold_46 rfl rfl ?_
              refine v_iload_n (n' := 48) h dX0_dearTold_47 rfl rfl ?_
              refine v_iload (n' := 50) h dX0_dearTold_48 rfl rfl ?_
              refine v_mmax (n' := 53) h q782 q502 q92 q503 (rm1 (by omega)) (Nat.le_of_ble_eq_true rfl) (rmC (by omega)) (rmS (by omega)) dX0_dearTold_50 rfl (by omega) (by omega) ?_
              refine v_istore3 (n' := 54) h dX0_dearTold_53 rfl rfl ?_
              refine v_iinc4 (n' := 57) h dX0_dearTold_54 rfl rfl ?_
              refine v_goto (tgt := 7) h dX0_dearTold_57 rfl ?_
              have q := ih (k + 1) hp29 (some (.int (iI (wouldV (sA s) (sB s) (sC s).1.1 k)))) (by omega) hC29
              rw [e1, if_neg (by omega), ek] at q
              refine V.widen (k2 := 6 * (k + 1)) (n2 := 132 * (k + 1)) (by omega) (by omega) (V.cast ?_ rfl q)
              rw [show mx (dearF (sA s) (sB s) (sC s).1.1 k).2 (wouldV (sA s) (sB s) (sC s).1.1 k) = (dearF (sA s) (sB s) (sC s).1.1 k).2 by unfold mx; split <;> omega]
            · refine v_iload (n' := 42) h dX0_dearTold_40 rfl rfl ?_
              refine v_goto (tgt := 46) h dX0_dearTold_42 rfl ?_
              refine v_istore2 (n' := 47) h dX0_dearTold_46 rfl rfl ?_
              refine v_iload_n (n' := 48) h dX0_dearTold_47 rfl rfl ?_
              refine v_iload (n' := 50) h dX0_dearTold_48 rfl rfl ?_
              refine v_mmax (n' := 53) h q782 q502 q92 q503 (rm1 (by omega)) (Nat.le_of_ble_eq_true rfl) (rmC (by omega)) (rmS (by omega)) dX0_dearTold_50 rfl (by omega) (by omega) ?_
              refine v_istore3 (n' := 54) h dX0_dearTold_53 rfl rfl ?_
              refine v_iinc4 (n' := 57) h dX0_dearTold_54 rfl rfl ?_
              refine v_goto (tgt := 7) h dX0_dearTold_57 rfl ?_
              have q := ih (k + 1) hp29 (some (.int (iI (wouldV (sA s) (sB s) (sC s).1.1 k)))) (by omega) hC29
              rw [e1, if_pos (by omega), ek] at q
              refine V.widen (k2 := 6 * (k + 1)) (n2 := 132 * (k + 1)) (by omega) (by omega) (V.cast ?_ rfl q)
              rw [show mx (dearF (sA s) (sB s) (sC s).1.1 k).2 (wouldV (sA s) (sB s) (sC s).1.1 k) = wouldV (sA s) (sB s) (sC s).1.1 k by unfold mx; split <;> omega]
    refine v_iconst (n' := 1) h dX0_dearTold_0 rfl ?_
    refine v_istore2 (n' := 2) h dX0_dearTold_1 rfl rfl ?_
    refine v_iconst (n' := 3) h dX0_dearTold_2 rfl ?_
    refine v_istore3 (n' := 4) h dX0_dearTold_3 rfl rfl ?_
    refine v_iconst (n' := 5) h dX0_dearTold_4 rfl ?_
    refine v_istore4 (n' := 7) h dX0_dearTold_5 rfl rfl ?_
    exact loop 100 0 hp none rfl hC
theorem k_dear (de : Nat) (hp : AH) (ax : Nat) (s : SS) (n : Int) (hC : CRel de hp ax s) (hi : SInv s n) (hn : n ≤ 64) (what : Int) (hw : -2147483648 ≤ what ∧ what ≤ 2147483647) : CtE de yX0_dear cX0_dear 2 (some .int) (rmK 54 600 13200) [.ref ax, .int (iI what)] hp (rI (fun z hp' => z = oDear s what ∧ CRel de hp' ax s)) := by
  have hC2 := hC
  obtain ⟨W, A, t, kt, σ, ad, hH, hX⟩ := hC2
  have hr := x_r hX hi hn
  have hx := hH.1.1
  have e1 : σ.1 1 = sSh s := hX.1
  unfold oDear
  refine CtE.of (by decide) (EL.c1 rfl (EL.c1 rfl EL.n0)) (fun Γ h hq hnm hde => ?_)
  refine v_iload_n (n' := 1) h dX0_dear_0 rfl rfl ?_
  refine v_iconst (n' := 2) h dX0_dear_1 rfl ?_
  refine v_iconst (n' := 3) h dX0_dear_2 rfl ?_
  refine vc_callS (n' := 6) h ((c_in de hp what 0 1 hw (by omega) (by omega)).d hde) (lw_S q255 q256 q82 q257) hdX0_in ⟨by omega, by decide⟩ ⟨by omega, by omega⟩ (Nat.le_of_ble_eq_true rfl) dX0_dear_3 rfl (eI fun z3 hp3 p3 => ?_) rfl
  obtain ⟨ez3, fz3⟩ := p3
  have ez3 := ez3.symm
  have fz3 := fz3.symm
  subst ez3 fz3
  refine v_bif_ne (n' := 9) (tgt := 12) h dX0_dear_6 rfl rfl (fun c6 => ?_) (fun c6 => ?_)
  · refine v_aload_n (n' := 13) h dX0_dear_12 rfl rfl ?_
    refine vc_callV (n' := 16) (ci := 0) h ((c_isShelf de hp ax A t kt σ hx (by omega)).d hde) rfl (by first | assumption | exact upH_s | exact (upH_n (by assumption)).trans (by assumption) | exact (upH_n (by assumption)).trans upH_s | exact (upH_n (by assumption)).trans ((upH_n (by assumption)).trans (by assumption))) (lw_V q684 q686 qs22 q82 q687) hdX0_isShelf ⟨by omega, by decide⟩ ⟨by omega, by omega⟩ (Nat.le_of_ble_eq_true rfl) dX0_dear_13 rfl (eI fun z13 hp13 p13 => ?_) rfl
    obtain ⟨ez13, fz13⟩ := p13
    have ez13 := ez13.symm
    have fz13 := fz13.symm
    subst ez13 fz13
    refine v_bif_eq (n' := 19) (tgt := 27) h dX0_dear_16 rfl rfl (fun c16 => ?_) (fun c16 => ?_)
    · refine v_bipush (n' := 29) h dX0_dear_27 rfl (by decide) ?_
      refine v_iret h hq dX0_dear_29 (by omega) (by omega) (ret_i ?_)
      exact ⟨by rw [if_neg (by omega), if_pos (by omega)], hC⟩
    · refine v_aload_n (n' := 20) h dX0_dear_19 rfl rfl ?_
      refine v_iload_n (n' := 21) h dX0_dear_20 rfl rfl ?_
      refine vc_callV (n' := 24) (ci := 0) h ((c_dearTold de hp ax s n hC hi hn (by omega) what (by omega)).d hde) rfl (by first | assumption | exact upH_s | exact (upH_n (by assumption)).trans (by assumption) | exact (upH_n (by assumption)).trans upH_s | exact (upH_n (by assumption)).trans ((upH_n (by assumption)).trans (by assumption))) (lw_V q801 q803 qs27 q82 q804) hdX0_dearTold ⟨by omega, by decide⟩ ⟨by omega, by omega⟩ (Nat.le_of_ble_eq_true rfl) dX0_dear_21 rfl (eI fun z21 hp21 p21 => ?_) rfl
      obtain ⟨ez21, C21⟩ := p21
      subst ez21
      refine v_goto (tgt := 29) h dX0_dear_24 rfl ?_
      refine v_iret h hq dX0_dear_29 (by omega) (by omega) (ret_i ?_)
      exact ⟨by rw [if_neg (by omega), if_neg (by omega)], C21⟩
  · refine v_bipush (n' := 11) h dX0_dear_9 rfl (by decide) ?_
    refine v_iret h hq dX0_dear_11 (by omega) (by omega) (ret_i ?_)
    rw [if_pos (by omega)]; exact ⟨rfl, hC⟩
def wrC (σ : MS) (x : Int) : MS := if σ.1 5 < 60 then setI (setA σ 4 (σ.1 5) x) 5 (σ.1 5 + 1) else σ
theorem c_write (de : Nat) (hp : AH) (W : Nat → Prop) (ax : Nat) (A : Nat → Nat) (t : Nat) (kt : Option Nat) (σ : MS) (ad : Nat → Nat) (s : SS) (hH : CH de hp W ax A t kt σ ad s) (h5 : 0 ≤ σ.1 5 ∧ σ.1 5 ≤ 60) (x : Int) : CtE de yX0_write cX0_write 2 none (rmK 1 0 0) [.ref ax, .int (iI x)] hp (rV (fun hp' => CH de hp' W ax A t kt (wrC σ x) ad s ∧ Frm (fun q => q = ax ∨ q = A 4) hp hp')) := by
  have hx := hH.1.1
  have h4 : hp (A 4) = some (aG 0 60 (σ.2 4)) := (hH.1.2.2.1 4 (by decide)).1
  have n4 : ax ≠ A 4 := (hH.1.na (by decide)).symm
  unfold wrC
  refine CtE.of (by decide) (EL.c1 rfl (EL.c1 rfl EL.n0)) (fun Γ h hq hnm hde => ?_)
  refine v_aload_n (n' := 1) h dX0_write_0 rfl rfl ?_
  refine v_get (n' := 4) (ci := 0) h rfl in_X0 5 (by decide) q195 rfl dX0_write_1 rfl (by first | assumption | exact upH_s | exact (upH_n (by assumption)).trans (by assumption) | exact (upH_n (by assumption)).trans upH_s | exact (upH_n (by assumption)).trans ((upH_n (by assumption)).trans (by assumption))) (by rfl) ?_
  refine v_bipush (n' := 6) h dX0_write_4 rfl (by decide) ?_
  refine v_icmp_ge (n' := 9) (tgt := 29) h dX0_write_6 rfl rfl (by omega) (by omega) (fun c6 => ?_) (fun c6 => ?_)
  · refine v_vret h hq dX0_write_29 (by omega) (by omega) (ret_v ?_)
    rw [if_neg (by omega)]; exact ⟨hH, Frm.rf⟩
  · refine v_aload_n (n' := 10) h dX0_write_9 rfl rfl ?_
    refine v_get (n' := 13) (ci := 0) h rfl in_X0 4 (by decide) q194 rfl dX0_write_10 rfl (by first | assumption | exact upH_s | exact (upH_n (by assumption)).trans (by assumption) | exact (upH_n (by assumption)).trans upH_s | exact (upH_n (by assumption)).trans ((upH_n (by assumption)).trans (by assumption))) (by rfl) ?_
    refine v_aload_n (n' := 14) h dX0_write_13 rfl rfl ?_
    refine v_get (n' := 17) (ci := 0) h rfl in_X0 5 (by decide) q195 rfl dX0_write_14 rfl (by first | assumption | exact upH_s | exact (upH_n (by assumption)).trans (by assumption) | exact (upH_n (by assumption)).trans upH_s | exact (upH_n (by assumption)).trans ((upH_n (by assumption)).trans (by assumption))) (by rfl) ?_
    refine v_iload_n (n' := 18) h dX0_write_17 rfl rfl ?_
    refine v_giast (n' := 19) h dX0_write_18 rfl (by first | assumption | exact upH_s | exact (upH_n (by assumption)).trans (by assumption) | exact (upH_n (by assumption)).trans upH_s | exact (upH_n (by assumption)).trans ((upH_n (by assumption)).trans (by assumption))) (by omega) (by omega) ?_
    refine v_aload_n (n' := 20) h dX0_write_19 rfl rfl ?_
    refine v_dup (n' := 21) h dX0_write_20 rfl rfl ?_
    refine v_get (n' := 24) (ci := 0) h rfl in_X0 5 (by decide) q195 rfl dX0_write_21 rfl (by first | assumption | exact upH_s | exact (upH_n (by assumption)).trans (by assumption) | exact (upH_n (by assumption)).trans upH_s | exact (upH_n (by assumption)).trans ((upH_n (by assumption)).trans (by assumption))) (by rfl) ?_
    refine v_iconst (n' := 25) h dX0_write_24 rfl ?_
    refine v_iadd (n' := 26) h dX0_write_25 rfl ?_
    refine v_put (n' := 29) (ci := 0) h rfl in_X0 tyX0 tyX0_ok nmX0 5 (by decide) q195 rfl rfl dX0_write_26 rfl (by first | assumption | exact upH_s | exact (upH_n (by assumption)).trans (by assumption) | exact (upH_n (by assumption)).trans upH_s | exact (upH_n (by assumption)).trans ((upH_n (by assumption)).trans (by assumption))) (by show 5 < 20; decide) rfl rfl ?_
    refine v_vret h hq dX0_write_29 (by omega) (by omega) (ret_v ?_)
    rw [if_pos (by omega)]
    exact ⟨(hH.wA (f := 4) (i := σ.1 5) (x := x) (by decide) (by decide)).wI (f := 5) (v := σ.1 5 + 1) (by decide), (Frm.up (Or.inr rfl)).tr (Frm.up (Or.inl rfl))⟩
theorem CLog.wr {σ : MS} {lg : List Int} (h : CLog σ 4 5 lg) (x : Int) : CLog (wrC σ (enc x)) 4 5 (lgw lg x) := by
  obtain ⟨h1, h2, h3⟩ := h
  unfold wrC lgw
  by_cases c : lg.length < 60
  · rw [if_pos (by omega), if_pos c]
    refine ⟨?_, ?_, fun i hi => ?_⟩
    · show σ.1 5 + 1 = _
      rw [List.length_append, h1]; rfl
    · rw [List.length_append]; show _ + 1 ≤ 60; omega
    · rw [lst_app hi]
      show (if 4 = 4 ∧ (i : Int) = σ.1 5 then enc x else σ.2 4 i) = _
      by_cases ci : i = lg.length
      · rw [if_pos ci, if_pos ⟨rfl, by omega⟩]
      · rw [if_neg ci, if_neg (fun z => ci (by omega))]
        rw [List.length_append] at hi
        exact h3 i (by have : i < lg.length + 1 := hi; omega)
  · rw [if_neg (by omega), if_neg c]
    exact ⟨h1, h2, h3⟩
theorem wrC_1 {σ : MS} {x : Int} {f : Nat} (h : f ≠ 5) : (wrC σ x).1 f = σ.1 f := by
  unfold wrC
  split
  · exact setI_1n h
  · rfl
theorem wrC_2 {σ : MS} {x : Int} {f : Nat} (h : f ≠ 4) : (wrC σ x).2 f = σ.2 f := by
  unfold wrC
  split
  · funext j; exact setA_2o h
  · rfl
theorem Bz.wr {σ : MS} {x : Int} (h : Bz σ) : Bz (wrC σ x) := fun i => by rw [wrC_2 (by decide), wrC_2 (by decide)]; exact h i
theorem XS.wr {σ : MS} {s s' : SS} {x : Int} (h : XS σ s) (e : sSh s' = sSh s ∧ sPn s' = sPn s ∧ sPg s' = sPg s ∧ (sC s').2.2.2.1 = lgw (sC s).2.2.2.1 x ∧ (sC s').2.2.2.2 = (sC s).2.2.2.2) : XS (wrC σ (enc x)) s' := by
  obtain ⟨h1, h2, h3, h4, h5, h6⟩ := h
  obtain ⟨e1, e2, e3, e4, e5⟩ := e
  refine ⟨by rw [wrC_1 (by decide), e1]; exact h1, by rw [wrC_1 (by decide), e2]; exact h2, fun i a b => by rw [wrC_2 (by decide), e3]; exact h3 i a b, by rw [e4]; exact h4.wr x, by rw [e5]; exact h5.cg (wrC_1 (by decide)) (wrC_2 (by decide)) (wrC_2 (by decide)) (wrC_2 (by decide)), h6.wr⟩
/-- the tree moves -/
theorem CH.tr {de : Nat} {hp hp' : AH} {W : Nat → Prop} {ax : Nat} {A : Nat → Nat} {t : Nat} {kt : Option Nat} {σ : MS} {ad ad' : Nat → Nat} {s s' : SS} (h : CH de hp W ax A t kt σ ad s) (f : Frm W hp hp') (hT : TT hp' W t ad' (sC s').2.1 (sC s').2.2.1 (sA s') (sB s') (sF s') (sC s').1) (es : sKn s' = sKn s ∧ sSh s' = sSh s ∧ sK s' = sK s ∧ sA s' = sA s ∧ sB s' = sB s ∧ sF s' = sF s) : CH de hp' W ax A t kt σ ad' s' := by
  obtain ⟨h1, h2, h3, h5, h6⟩ := h
  exact ⟨h1.frm f, f.fre h2, hT, h5.frm f, (h6.frm f).cg ⟨rfl, rfl, rfl⟩ (fun _ _ _ => rfl) es⟩
theorem c_putNew (de : Nat) (hp : AH) (W : Nat → Prop) (ax : Nat) (A : Nat → Nat) (t : Nat) (kt : Option Nat) (σ : MS) (ad : Nat → Nat) (s : SS) (hH : CH de hp W ax A t kt σ ad s) (hX : XS σ s) (hs : Srt (sC s).1.1) (hz : tz (sC s).1.1 < 40) (hB : TeB (sC s).1 256000) (hab : isRat (sA s) (sB s)) (hfee : 0 ≤ sF s ∧ sF s ≤ 9)
    (key kd x : Nat) (v : Int) (hk : key ∉ tl (sC s).1.1) (hk1 : key < 100) (hkd : kd < 5) (hx : hp x = some (eO kd key v none none)) (hWx : W x) : CtE de yX0_putNew cX0_putNew 2 (some .int) (rmK 63 12 264) [.ref ax, .ref x] hp (rI (fun z hp' => z = ((entR (sA s) (sB s) (sC s).1.1 key).2 : Int) ∧ ∃ σ' ad', CH de hp' W ax A t kt σ' ad' (setC s (shPut (sA s) (sB s) (sF s) (sC s) kd key v)) ∧ XS σ' (setC s (shPut (sA s) (sB s) (sF s) (sC s) kd key v)))) := by
  have hax := hH.1.1
  have h5 : 0 ≤ σ.1 5 ∧ σ.1 5 ≤ 60 := by have := hX.2.2.2.1; have := this.1; have := hX.2.2.2.1.2.1; omega
  refine CtE.of (by decide) (EL.c1 rfl (EL.c1 rfl EL.n0)) (fun Γ h hq hnm hde => ?_)
  refine v_aload_n (n' := 1) h dX0_putNew_0 rfl rfl ?_
  refine v_aload_n (n' := 2) h dX0_putNew_1 rfl rfl ?_
  refine v_ekey (n' := 5) h q425 dX0_putNew_2 rfl (by first | assumption | exact upH_s | exact (upH_n (by assumption)).trans (by assumption) | exact (upH_n (by assumption)).trans upH_s | exact (upH_n (by assumption)).trans ((upH_n (by assumption)).trans (by assumption))) (by omega) ?_
  refine vc_callV (n' := 8) (ci := 0) h ((c_write de hp W ax A t kt σ ad s hH h5 (key : Int)).d hde) rfl (by first | assumption | exact upH_s | exact (upH_n (by assumption)).trans (by assumption) | exact (upH_n (by assumption)).trans upH_s | exact (upH_n (by assumption)).trans ((upH_n (by assumption)).trans (by assumption))) (lw_V q556 q558 qs12 q82 q559) hdX0_write ⟨by omega, by decide⟩ ⟨by omega, by omega⟩ (Nat.le_of_ble_eq_true rfl) dX0_putNew_5 rfl (eV fun hp5 p5 => ?_) rfl
  obtain ⟨H5, F5⟩ := p5
  have hx5 : hp5 x = some (eO kd key v none none) := F5.at hx (fun z => by
    rcases z with z | z
    · rw [z] at hWx; exact hH.1.2.1 hWx
    · rw [z] at hWx; exact (hH.1.2.2.1 4 (by decide)).2 hWx)
  have hax5 := H5.1.1
  have ht5 := H5.2.2.1.1
  refine v_aload_n (n' := 9) h dX0_putNew_8 rfl rfl ?_
  refine v_get (n' := 12) (ci := 0) h rfl in_X0 0 (by decide) q188 rfl dX0_putNew_9 rfl (by first | assumption | exact upH_s | exact (upH_n (by assumption)).trans (by assumption) | exact (upH_n (by assumption)).trans upH_s | exact (upH_n (by assumption)).trans ((upH_n (by assumption)).trans (by assumption))) (by rfl) ?_
  refine v_aload_n (n' := 13) h dX0_putNew_12 rfl rfl ?_
  refine vc_callV (n' := 16) (ci := 1) h ((c_put de hp5 W t ad _ _ _ _ _ _ H5.2.2.1 H5.2.1 hs hz (hB.le (by omega)) hab hfee key kd x v hk hk1 hkd hx5 hWx).d hde) rfl (by first | assumption | exact upH_s | exact (upH_n (by assumption)).trans (by assumption) | exact (upH_n (by assumption)).trans upH_s | exact (upH_n (by assumption)).trans ((upH_n (by assumption)).trans (by assumption))) (lw_V q560 q561 q562 q83 q563) hdX1_put ⟨by omega, by decide⟩ ⟨by omega, by omega⟩ (Nat.le_of_ble_eq_true rfl) dX0_putNew_13 rfl (eI fun z13 hp13 p13 => ?_) rfl
  obtain ⟨ez13, T13, F13⟩ := p13
  subst ez13
  refine v_iret h hq dX0_putNew_16 (by omega) (by omega) (ret_i ?_)
  exact ⟨rfl, _, _, H5.tr (s' := setC s (shPut (sA s) (sB s) (sF s) (sC s) kd key v)) F13 T13 ⟨rfl, rfl, rfl, rfl, rfl, rfl⟩, by rw [show (key : Int) = enc (key : Int) by unfold enc; rw [if_neg (by omega)]]; exact hX.wr ⟨rfl, rfl, rfl, rfl, rfl⟩⟩
