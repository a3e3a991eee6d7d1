/-! THE CLASS: digest, whole -/
set_option maxRecDepth 100000
theorem c_mixedShelf (de : Nat) (hp : AH) (ax : Nat) (s : SS) (n : Int) (hC : CRel de hp ax s) (hi : SInv s n) (hn : n ≤ 64) (hsh : sSh s ≠ 0) (h0 : Int) : CtE de yX0_mixedShelf cX0_mixedShelf 6 (some .long) (rmK 64 2089 43042) [.ref ax, .long (lI h0)] hp (rJ (fun z hp' => z = (svL s).foldl sayF h0 ∧ CRel de hp' ax s)) := by
  obtain ⟨hs, hz, hB, hk1, hab, -⟩ := tr_all hi hn
  obtain ⟨hab, hfee⟩ := hab hsh
  have hlv : lvalid [] (sC s).2.2.2.1 := hi.2.2.2.2.1.2.2.2.2.2.1.1
  have hl60 : (sC s).2.2.2.1.length ≤ 60 := by
    obtain ⟨W, A, t, kt, σ, ad, hH, hX⟩ := hC
    exact hX.2.2.2.1.2.1
  have r0 := replayV_r (a := 2) (b := 3) (what := 0) hfee hlv hl60
  have r1 := replayV_r (a := 2) (b := 3) (what := 1) hfee hlv hl60
  have ra : -1 ≤ aheadV s ∧ aheadV s ≤ 50 := by
    have q := ahV_r (a := sA s) (b := sB s) (fee := sF s) (tz (sC s).1.1 + 1) ((sC s).1.1, (sC s).1.2.1, 0, 0, (0, 0)) 0 (by omega)
    unfold aheadV
    omega
  refine CtE.of (by decide) (EL.c1 rfl (EL.c2 rfl (EL.nn (EL.nn (EL.nn EL.n0))))) (fun Γ h hq hnm hde => ?_)
  have tail : ∀ (hp1 : AH) (d : Int) (w : Int) (v5 : Option Value), CRel de hp1 ax s → (-1 ≤ w ∧ w ≤ 40) → d = ((List.range 7).map (fun i : Nat => ledg (sA s) (sB s) (sC s).1 (i : Int))).foldl sayF h0 → w = (if tz (sC s).1.1 = 40 then -1 else wouldV (sA s) (sB s) (sC s).1.1 50) → V Γ 6 132 hp1 56 [some (.ref ax), some (.long (lI h0)), none, some (.long (lI d)), none, v5] [.long (lI w), .long (lI d)] := by
    intro hp1 d w v5 C1 hw ed ew
    have C1' := C1
    obtain ⟨W1, A1, t1, kt1, σ1, ad1, H1, X1⟩ := C1'
    have hx1 := H1.1.1
    refine vc_callS (n' := 59) h ((c_mixed de hp1 _ _).d hde) (lw_S q922 q923 q82 q924) hdX0_mixed ⟨by omega, by decide⟩ ⟨by omega, by omega⟩ (Nat.le_of_ble_eq_true rfl) dX0_mixedShelf_56 rfl (eJ fun z56 hp56 p56 => ?_) rfl
    obtain ⟨ez56, fz56⟩ := p56
    have ez56 := ez56.symm
    have fz56 := fz56.symm
    subst ez56 fz56
    refine v_aload_n (n' := 60) h dX0_mixedShelf_59 rfl rfl ?_
    refine vc_callV (n' := 63) (ci := 0) h ((c_aheadTold de hp1 ax s n C1 hi hn hsh).d hde) rfl (by first | assumption | exact upH_s | exact (upH_n (by assumption)).trans (by assumption) | exact (upH_n (by assumption)).trans upH_s | exact (upH_n (by assumption)).trans ((upH_n (by assumption)).trans (by assumption))) (lw_V q820 q822 qs29 q82 q823) hdX0_aheadTold ⟨by omega, by decide⟩ ⟨by omega, by omega⟩ (Nat.le_of_ble_eq_true rfl) dX0_mixedShelf_60 rfl (eI fun z60 hp60 p60 => ?_) rfl
    obtain ⟨ez60, C60⟩ := p60
    subst ez60
    have C60' := C60
    obtain ⟨W2, A2, t2, kt2, σ2, ad2, H2, X2⟩ := C60'
    have hx60 := H2.1.1
    refine v_i2l (n' := 64) h dX0_mixedShelf_63 rfl (by omega) ?_
    refine vc_callS (n' := 67) h ((c_mixed de hp60 _ _).d hde) (lw_S q922 q923 q82 q924) hdX0_mixed ⟨by omega, by decide⟩ ⟨by omega, by omega⟩ (Nat.le_of_ble_eq_true rfl) dX0_mixedShelf_64 rfl (eJ fun z64 hp64 p64 => ?_) rfl
    obtain ⟨ez64, fz64⟩ := p64
    have ez64 := ez64.symm
    have fz64 := fz64.symm
    subst ez64 fz64
    refine v_lstore3 (n' := 68) h dX0_mixedShelf_67 rfl rfl ?_
    refine v_lload_n (n' := 69) h dX0_mixedShelf_68 rfl rfl ?_
    refine v_aload_n (n' := 70) h dX0_mixedShelf_69 rfl rfl ?_
    refine v_iconst (n' := 71) h dX0_mixedShelf_70 rfl ?_
    refine v_iconst (n' := 72) h dX0_mixedShelf_71 rfl ?_
    refine v_iconst (n' := 73) h dX0_mixedShelf_72 rfl ?_
    refine vc_callV (n' := 76) (ci := 0) h ((c_replayTold de hp60 ax s n C60 hi hn hsh 2 3 0 rat23 (by omega)).d hde) rfl (by first | assumption | exact upH_s | exact (upH_n (by assumption)).trans (by assumption) | exact (upH_n (by assumption)).trans upH_s | exact (upH_n (by assumption)).trans ((upH_n (by assumption)).trans (by assumption))) (lw_V q812 q814 qs28 q82 q815) hdX0_replayTold ⟨by omega, by decide⟩ ⟨by omega, by omega⟩ (Nat.le_of_ble_eq_true rfl) dX0_mixedShelf_73 rfl (eI fun z73 hp73 p73 => ?_) rfl
    obtain ⟨ez73, C73⟩ := p73
    subst ez73
    have C73' := C73
    obtain ⟨W3, A3, t3, kt3, σ3, ad3, H3, X3⟩ := C73'
    have hx73 := H3.1.1
    refine v_i2l (n' := 77) h dX0_mixedShelf_76 rfl (by omega) ?_
    refine vc_callS (n' := 80) h ((c_mixed de hp73 _ _).d hde) (lw_S q922 q923 q82 q924) hdX0_mixed ⟨by omega, by decide⟩ ⟨by omega, by omega⟩ (Nat.le_of_ble_eq_true rfl) dX0_mixedShelf_77 rfl (eJ fun z77 hp77 p77 => ?_) rfl
    obtain ⟨ez77, fz77⟩ := p77
    have ez77 := ez77.symm
    have fz77 := fz77.symm
    subst ez77 fz77
    refine v_aload_n (n' := 81) h dX0_mixedShelf_80 rfl rfl ?_
    refine v_iconst (n' := 82) h dX0_mixedShelf_81 rfl ?_
    refine v_iconst (n' := 83) h dX0_mixedShelf_82 rfl ?_
    refine v_iconst (n' := 84) h dX0_mixedShelf_83 rfl ?_
    refine vc_callV (n' := 87) (ci := 0) h ((c_replayTold de hp73 ax s n C73 hi hn hsh 2 3 1 rat23 (by omega)).d hde) rfl (by first | assumption | exact upH_s | exact (upH_n (by assumption)).trans (by assumption) | exact (upH_n (by assumption)).trans upH_s | exact (upH_n (by assumption)).trans ((upH_n (by assumption)).trans (by assumption))) (lw_V q812 q814 qs28 q82 q815) hdX0_replayTold ⟨by omega, by decide⟩ ⟨by omega, by omega⟩ (Nat.le_of_ble_eq_true rfl) dX0_mixedShelf_84 rfl (eI fun z84 hp84 p84 => ?_) rfl
    obtain ⟨ez84, C84⟩ := p84
    subst ez84
    refine v_i2l (n' := 88) h dX0_mixedShelf_87 rfl (by omega) ?_
    refine vc_callS (n' := 91) h ((c_mixed de hp84 _ _).d hde) (lw_S q922 q923 q82 q924) hdX0_mixed ⟨by omega, by decide⟩ ⟨by omega, by omega⟩ (Nat.le_of_ble_eq_true rfl) dX0_mixedShelf_88 rfl (eJ fun z88 hp88 p88 => ?_) rfl
    obtain ⟨ez88, fz88⟩ := p88
    have ez88 := ez88.symm
    have fz88 := fz88.symm
    subst ez88 fz88
    refine v_lret h hq dX0_mixedShelf_91 (by omega) (by omega) (ret_j ?_)
    exact ⟨by unfold svL; rw [List.foldl_append, ← ed, ← ew]; rfl, C84⟩
  have loop : ∀ (m j : Nat), j + m = 7 → V Γ 0 0 hp 5 [some (.ref ax), some (.long (lI h0)), none, some (.long (lI (((List.range j).map (fun i : Nat => ledg (sA s) (sB s) (sC s).1 (i : Int))).foldl sayF h0))), none, some (.int (iI j))] [] := by
    have hC2 := hC
    obtain ⟨W, A, t, kt, σ, ad, hH, hX⟩ := hC2
    have hx := hH.1.1
    have ht := hH.2.2.1.1
    intro m
    induction m with
    | zero =>
      intro j hj
      obtain rfl : j = 7 := by omega
      refine v_iload (n' := 7) h dX0_mixedShelf_5 rfl rfl ?_
      refine v_bipush (n' := 9) h dX0_mixedShelf_7 rfl (by decide) ?_
      refine v_icmp_ge (n' := 12) (tgt := 30) h dX0_mixedShelf_9 rfl rfl (by omega) (by omega) (fun c9 => ?_) (fun c9 => ?_)
      · refine v_lload_n (n' := 31) h dX0_mixedShelf_30 rfl rfl ?_
        refine v_aload_n (n' := 32) h dX0_mixedShelf_31 rfl rfl ?_
        refine v_get (n' := 35) (ci := 0) h rfl in_X0 0 (by decide) q188 rfl dX0_mixedShelf_32 rfl (by first | assumption | exact upH_s | exact (upH_n (by assumption)).trans (by assumption) | exact (upH_n (by assumption)).trans upH_s | exact (upH_n (by assumption)).trans ((upH_n (by assumption)).trans (by assumption))) (by rfl) ?_
        refine v_getN (n' := 38) (ci := 1) h rfl in_X1 4 (by decide) q127 rfl dX0_mixedShelf_35 rfl (by first | assumption | exact upH_s | exact (upH_n (by assumption)).trans (by assumption) | exact (upH_n (by assumption)).trans upH_s | exact (upH_n (by assumption)).trans ((upH_n (by assumption)).trans (by assumption))) (by rfl) ?_
        refine v_bipush (n' := 40) h dX0_mixedShelf_38 rfl (by decide) ?_
        refine v_icmp_ne (n' := 43) (tgt := 49) h dX0_mixedShelf_40 rfl rfl (by omega) (by omega) (fun c40 => ?_) (fun c40 => ?_)
        · refine v_aload_n (n' := 50) h dX0_mixedShelf_49 rfl rfl ?_
          refine v_bipush (n' := 52) h dX0_mixedShelf_50 rfl (by decide) ?_
          refine vc_callV (n' := 55) (ci := 0) h ((c_wouldBuild de hp ax s n hC hi hn hsh (by omega) 50 (by omega)).d hde) rfl (by first | assumption | exact upH_s | exact (upH_n (by assumption)).trans (by assumption) | exact (upH_n (by assumption)).trans upH_s | exact (upH_n (by assumption)).trans ((upH_n (by assumption)).trans (by assumption))) (lw_V q789 q791 qs26 q82 q792) hdX0_wouldBuild ⟨by omega, by decide⟩ ⟨by omega, by omega⟩ (Nat.le_of_ble_eq_true rfl) dX0_mixedShelf_52 rfl (eI fun z52 hp52 p52 => ?_) rfl
          obtain ⟨ez52, F52⟩ := p52
          subst ez52
          have hwr := wouldV_r (a := sA s) (b := sB s) (T := (sC s).1.1) (k := 50) (by omega)
          refine v_i2l (n' := 56) h dX0_mixedShelf_55 rfl (by omega) ?_
          exact tail hp52 _ _ _ ⟨W, A, t, kt, σ, ad, hH.ext F52, hX⟩ (by omega) rfl (by rw [if_neg (by omega)])
        · refine v_ldc2 (n' := 46) (z := -1) h dX0_mixedShelf_43 rfl q930 (by decide) ?_
          refine v_goto (tgt := 56) h dX0_mixedShelf_46 rfl ?_
          exact V.widen (by omega) (by omega) (tail hp _ _ _ hC (by omega) rfl (by rw [if_pos (by omega)]))
      · omega
    | succ m ih =>
      intro j hj
      have hlr := ledg_r (a := sA s) (b := sB s) (what := (j : Int)) hz (hB.le (by omega))
      have ej : ((j + 1 : Nat) : Int) = (j : Int) + 1 := by omega
      refine v_iload (n' := 7) h dX0_mixedShelf_5 rfl rfl ?_
      refine v_bipush (n' := 9) h dX0_mixedShelf_7 rfl (by decide) ?_
      refine v_icmp_ge (n' := 12) (tgt := 30) h dX0_mixedShelf_9 rfl rfl (by omega) (by omega) (fun c9 => ?_) (fun c9 => ?_)
      · omega
      · refine v_lload_n (n' := 13) h dX0_mixedShelf_12 rfl rfl ?_
        refine v_aload_n (n' := 14) h dX0_mixedShelf_13 rfl rfl ?_
        refine v_iload (n' := 16) h dX0_mixedShelf_14 rfl rfl ?_
        refine vc_callV (n' := 19) (ci := 0) h ((c_ledgerTold de hp ax s n hC hi hn hsh (j : Int) (by omega)).d hde) rfl (by first | assumption | exact upH_s | exact (upH_n (by assumption)).trans (by assumption) | exact (upH_n (by assumption)).trans upH_s | exact (upH_n (by assumption)).trans ((upH_n (by assumption)).trans (by assumption))) (lw_V q775 q777 qs25 q82 q778) hdX0_ledgerTold ⟨by omega, by decide⟩ ⟨by omega, by omega⟩ (Nat.le_of_ble_eq_true rfl) dX0_mixedShelf_16 rfl (eI fun z16 hp16 p16 => ?_) rfl
        obtain ⟨ez16, fz16⟩ := p16
        have ez16 := ez16.symm
        have fz16 := fz16.symm
        subst ez16 fz16
        refine v_i2l (n' := 20) h dX0_mixedShelf_19 rfl (by omega) ?_
        refine vc_callS (n' := 23) h ((c_mixed de hp _ _).d hde) (lw_S q922 q923 q82 q924) hdX0_mixed ⟨by omega, by decide⟩ ⟨by omega, by omega⟩ (Nat.le_of_ble_eq_true rfl) dX0_mixedShelf_20 rfl (eJ fun z20 hp20 p20 => ?_) rfl
        obtain ⟨ez20, fz20⟩ := p20
        have ez20 := ez20.symm
        have fz20 := fz20.symm
        subst ez20 fz20
        refine v_lstore3 (n' := 24) h dX0_mixedShelf_23 rfl rfl ?_
        refine v_iinc5 (n' := 27) h dX0_mixedShelf_24 rfl rfl ?_
        refine v_goto (tgt := 5) h dX0_mixedShelf_27 rfl ?_
        rw [← ej]
        have q := ih (j + 1) (by omega)
        rw [List.range_succ, List.map_append, List.foldl_append] at q
        exact q
  refine v_lload_n (n' := 1) h dX0_mixedShelf_0 rfl rfl ?_
  refine v_lstore3 (n' := 2) h dX0_mixedShelf_1 rfl rfl ?_
  refine v_iconst (n' := 3) h dX0_mixedShelf_2 rfl ?_
  refine v_istore5 (n' := 5) h dX0_mixedShelf_3 rfl rfl ?_
  exact loop 7 0 (by omega)
theorem k_digest (de : Nat) (hp : AH) (ax : Nat) (s : SS) (n : Int) (hC : CRel de hp ax s) (hi : SInv s n) (hn : n ≤ 64) : CtE de yX0_digest cX0_digest 4 (some .long) (rmK 65 4249 82402) [.ref ax] hp (rJ (fun z hp' => z = oDigest s ∧ CRel de hp' ax s)) := by
  have hC2 := hC
  obtain ⟨W, A, t, kt, σ, ad, hH, hX⟩ := hC2
  have hr := x_r hX hi hn
  have hx := hH.1.1
  have e1 : σ.1 1 = sSh s := hX.1
  have hS : SeenOk (sC s).2.2.2.2 := hi.2.2.2.2.1.2.2.2.2.2.2
  have hpg := hi.1
  have hN := srtN_lt (sC s).2.2.2.2 7
  have har := askV_r (srtN (sC s).2.2.2.2 7)
  have hl60 : (sC s).2.2.2.1.length ≤ 60 := hX.2.2.2.1.2.1
  have hl6 : (sC s).2.2.2.2.length ≤ 6 := hX.2.2.2.2.1.2.1
  refine CtE.of (by decide) (EL.c1 rfl (EL.nn (EL.nn (EL.nn EL.n0)))) (fun Γ h hq hnm hde => ?_)
  have loopC : ∀ (hp1 : AH), CRel de hp1 ax s → ∀ (m j : Nat) (d : Int), j + m = 8 → d = ((List.range j).map (fun i : Nat => oCount s (i : Int))).foldl sayF ((((tl (sC s).1.1).flatMap (dgE (sC s)) ++ dgM s) ++ dgP s).foldl sayF 1373) → V Γ 4249 82402 hp1 77 [some (.ref ax), some (.long (lI d)), none, some (.int (iI j))] [] := by
    intro hp1 C1 m
    have C1' := C1
    obtain ⟨W1, A1, t1, kt1, σ1, ad1, H1, X1⟩ := C1'
    have hx1 := H1.1.1
    induction m with
    | zero =>
      intro j d hj ed
      obtain rfl : j = 8 := by omega
      refine v_iload_n (n' := 78) h dX0_digest_77 rfl rfl ?_
      refine v_bipush (n' := 80) h dX0_digest_78 rfl (by decide) ?_
      refine v_icmp_ge (n' := 83) (tgt := 100) h dX0_digest_80 rfl rfl (by omega) (by omega) (fun c80 => ?_) (fun c80 => ?_)
      · refine v_lload_n (n' := 101) h dX0_digest_100 rfl rfl ?_
        refine v_lret h hq dX0_digest_101 (by omega) (by omega) (ret_j ?_)
        exact ⟨by unfold oDigest; rw [List.foldl_append, ed]; rfl, C1⟩
      · omega
    | succ m ih =>
      intro j d hj ed
      have hc := oCount_r hi hl60 hl6 (j : Int)
      have ej : ((j + 1 : Nat) : Int) = (j : Int) + 1 := by omega
      refine v_iload_n (n' := 78) h dX0_digest_77 rfl rfl ?_
      refine v_bipush (n' := 80) h dX0_digest_78 rfl (by decide) ?_
      refine v_icmp_ge (n' := 83) (tgt := 100) h dX0_digest_80 rfl rfl (by omega) (by omega) (fun c80 => ?_) (fun c80 => ?_)
      · omega
      · refine v_lload_n (n' := 84) h dX0_digest_83 rfl rfl ?_
        refine v_aload_n (n' := 85) h dX0_digest_84 rfl rfl ?_
        refine v_iload_n (n' := 86) h dX0_digest_85 rfl rfl ?_
        refine vc_callV (n' := 89) (ci := 0) h ((c_countOf de hp1 ax s n C1 hi hn (j : Int) (by omega)).d hde) rfl (by first | assumption | exact upH_s | exact (upH_n (by assumption)).trans (by assumption) | exact (upH_n (by assumption)).trans upH_s | exact (upH_n (by assumption)).trans ((upH_n (by assumption)).trans (by assumption))) (lw_V q909 q911 qs35 q82 q912) hdX0_countOf ⟨by omega, by decide⟩ ⟨by omega, by omega⟩ (Nat.le_of_ble_eq_true rfl) dX0_digest_86 rfl (eI fun z86 hp86 p86 => ?_) rfl
        obtain ⟨ez86, fz86⟩ := p86
        have ez86 := ez86.symm
        have fz86 := fz86.symm
        subst ez86 fz86
        refine v_i2l (n' := 90) h dX0_digest_89 rfl (by omega) ?_
        refine vc_callS (n' := 93) h ((c_mixed de hp1 _ _).d hde) (lw_S q922 q923 q82 q924) hdX0_mixed ⟨by omega, by decide⟩ ⟨by omega, by omega⟩ (Nat.le_of_ble_eq_true rfl) dX0_digest_90 rfl (eJ fun z90 hp90 p90 => ?_) rfl
        obtain ⟨ez90, fz90⟩ := p90
        have ez90 := ez90.symm
        have fz90 := fz90.symm
        subst ez90 fz90
        refine v_lstore1 (n' := 94) h dX0_digest_93 rfl rfl ?_
        refine v_iinc3 (n' := 97) h dX0_digest_94 rfl rfl ?_
        refine v_goto (tgt := 77) h dX0_digest_97 rfl ?_
        rw [← ej]
        refine ih (j + 1) _ (by omega) ?_
        rw [List.range_succ, List.map_append, List.foldl_append, ed]
        rfl
  have loopP : ∀ (hp1 : AH), CRel de hp1 ax s → ∀ (m j : Nat) (d : Int), j + m = (sPn s).toNat → d = ((List.range j).map (fun i : Nat => sPg s (i : Int))).foldl sayF (((tl (sC s).1.1).flatMap (dgE (sC s)) ++ dgM s).foldl sayF 1373) → V Γ 4249 82402 hp1 49 [some (.ref ax), some (.long (lI d)), none, some (.int (iI j))] [] := by
    intro hp1 C1 m
    have C1' := C1
    obtain ⟨W1, A1, t1, kt1, σ1, ad1, H1, X1⟩ := C1'
    have hx1 := H1.1.1
    have a2 : hp1 (A1 2) = some (aG 1 54 (σ1.2 2)) := (H1.1.2.2.1 2 (by decide)).1
    have e3 : σ1.1 3 = sPn s := X1.2.1
    have hr1 := x_r X1 hi hn
    induction m with
    | zero =>
      intro j d hj ed
      refine v_iload_n (n' := 50) h dX0_digest_49 rfl rfl ?_
      refine v_aload_n (n' := 51) h dX0_digest_50 rfl rfl ?_
      refine v_get (n' := 54) (ci := 0) h rfl in_X0 3 (by decide) q193 rfl dX0_digest_51 rfl (by first | assumption | exact upH_s | exact (upH_n (by assumption)).trans (by assumption) | exact (upH_n (by assumption)).trans upH_s | exact (upH_n (by assumption)).trans ((upH_n (by assumption)).trans (by assumption))) (by rfl) ?_
      refine v_icmp_ge (n' := 57) (tgt := 75) h dX0_digest_54 rfl rfl (by omega) (by omega) (fun c54 => ?_) (fun c54 => ?_)
      · refine v_iconst (n' := 76) h dX0_digest_75 rfl ?_
        refine v_istore3 (n' := 77) h dX0_digest_76 rfl rfl ?_
        refine loopC hp1 C1 8 0 d (by omega) ?_
        show d = (((tl (sC s).1.1).flatMap (dgE (sC s)) ++ dgM s) ++ dgP s).foldl sayF 1373
        rw [List.foldl_append (l' := dgP s), ed, show j = (sPn s).toNat by omega]
        rfl
      · omega
    | succ m ih =>
      intro j d hj ed
      have e2 : σ1.2 2 (j : Int) = sPg s (j : Int) := X1.2.2.1 (j : Int) (by omega) (by omega)
      have hpj := hpg (j : Int)
      have ej : ((j + 1 : Nat) : Int) = (j : Int) + 1 := by omega
      refine v_iload_n (n' := 50) h dX0_digest_49 rfl rfl ?_
      refine v_aload_n (n' := 51) h dX0_digest_50 rfl rfl ?_
      refine v_get (n' := 54) (ci := 0) h rfl in_X0 3 (by decide) q193 rfl dX0_digest_51 rfl (by first | assumption | exact upH_s | exact (upH_n (by assumption)).trans (by assumption) | exact (upH_n (by assumption)).trans upH_s | exact (upH_n (by assumption)).trans ((upH_n (by assumption)).trans (by assumption))) (by rfl) ?_
      refine v_icmp_ge (n' := 57) (tgt := 75) h dX0_digest_54 rfl rfl (by omega) (by omega) (fun c54 => ?_) (fun c54 => ?_)
      · omega
      · refine v_lload_n (n' := 58) h dX0_digest_57 rfl rfl ?_
        refine v_aload_n (n' := 59) h dX0_digest_58 rfl rfl ?_
        refine v_get (n' := 62) (ci := 0) h rfl in_X0 2 (by decide) q191 rfl dX0_digest_59 rfl (by first | assumption | exact upH_s | exact (upH_n (by assumption)).trans (by assumption) | exact (upH_n (by assumption)).trans upH_s | exact (upH_n (by assumption)).trans ((upH_n (by assumption)).trans (by assumption))) (by rfl) ?_
        refine v_iload_n (n' := 63) h dX0_digest_62 rfl rfl ?_
        refine v_gbald (n' := 64) h dX0_digest_63 rfl (by first | assumption | exact upH_s | exact (upH_n (by assumption)).trans (by assumption) | exact (upH_n (by assumption)).trans upH_s | exact (upH_n (by assumption)).trans ((upH_n (by assumption)).trans (by assumption))) (by omega) (by omega) ?_
        rw [e2]
        refine v_i2l (n' := 65) h dX0_digest_64 rfl (by omega) ?_
        refine vc_callS (n' := 68) h ((c_mixed de hp1 _ _).d hde) (lw_S q922 q923 q82 q924) hdX0_mixed ⟨by omega, by decide⟩ ⟨by omega, by omega⟩ (Nat.le_of_ble_eq_true rfl) dX0_digest_65 rfl (eJ fun z65 hp65 p65 => ?_) rfl
        obtain ⟨ez65, fz65⟩ := p65
        have ez65 := ez65.symm
        have fz65 := fz65.symm
        subst ez65 fz65
        refine v_lstore1 (n' := 69) h dX0_digest_68 rfl rfl ?_
        refine v_iinc3 (n' := 72) h dX0_digest_69 rfl rfl ?_
        refine v_goto (tgt := 49) h dX0_digest_72 rfl ?_
        rw [← ej]
        refine ih (j + 1) _ (by omega) ?_
        rw [List.range_succ, List.map_append, List.foldl_append, ed]
        rfl
  have tail : ∀ (hp1 : AH) (d d0 : Int), CRel de hp1 ax s → d = ((tl (sC s).1.1).flatMap (dgE (sC s)) ++ (if sSh s = 0 then [] else svL s)).foldl sayF 1373 → V Γ 3769 80002 hp1 24 [some (.ref ax), some (.long (lI d0)), none, none] [.long (lI d)] := by
    intro hp1 d d0 C1 ed
    obtain ⟨W1, A1, t1, kt1, σ1, ad1, H1, X1⟩ := C1
    have hx1 := H1.1.1
    refine v_lstore1 (n' := 25) h dX0_digest_24 rfl rfl ?_
    refine v_lload_n (n' := 26) h dX0_digest_25 rfl rfl ?_
    refine v_aload_n (n' := 27) h dX0_digest_26 rfl rfl ?_
    refine v_bipush (n' := 29) h dX0_digest_27 rfl (by decide) ?_
    refine vc_callV (n' := 32) (ci := 0) h ((c_sortsOf de hp1 W1 ax A1 t1 kt1 σ1 ad1 s H1 X1 hS 7 (by omega)).d hde) rfl (by first | assumption | exact upH_s | exact (upH_n (by assumption)).trans (by assumption) | exact (upH_n (by assumption)).trans upH_s | exact (upH_n (by assumption)).trans ((upH_n (by assumption)).trans (by assumption))) (lw_V q845 q847 qs30 q82 q848) hdX0_sortsOf ⟨by omega, by decide⟩ ⟨by omega, by omega⟩ (Nat.le_of_ble_eq_true rfl) dX0_digest_29 rfl (eI fun z29 hp29 p29 => ?_) rfl
    obtain ⟨ez29, W29, H29⟩ := p29
    subst ez29
    have hx29 := H29.1.1
    refine v_i2l (n' := 33) h dX0_digest_32 rfl (by omega) ?_
    refine vc_callS (n' := 36) h ((c_mixed de hp29 _ _).d hde) (lw_S q922 q923 q82 q924) hdX0_mixed ⟨by omega, by decide⟩ ⟨by omega, by omega⟩ (Nat.le_of_ble_eq_true rfl) dX0_digest_33 rfl (eJ fun z33 hp33 p33 => ?_) rfl
    obtain ⟨ez33, fz33⟩ := p33
    have ez33 := ez33.symm
    have fz33 := fz33.symm
    subst ez33 fz33
    refine v_aload_n (n' := 37) h dX0_digest_36 rfl rfl ?_
    refine v_bipush (n' := 39) h dX0_digest_37 rfl (by decide) ?_
    refine vc_callV (n' := 42) (ci := 0) h ((c_askOf de hp29 W29 ax A1 t1 kt1 σ1 ad1 s H29 X1 hS 7 (by omega)).d hde) rfl (by first | assumption | exact upH_s | exact (upH_n (by assumption)).trans (by assumption) | exact (upH_n (by assumption)).trans upH_s | exact (upH_n (by assumption)).trans ((upH_n (by assumption)).trans (by assumption))) (lw_V q867 q869 qs32 q82 q870) hdX0_askOf ⟨by omega, by decide⟩ ⟨by omega, by omega⟩ (Nat.le_of_ble_eq_true rfl) dX0_digest_39 rfl (eI fun z39 hp39 p39 => ?_) rfl
    obtain ⟨ez39, W39, H39⟩ := p39
    subst ez39
    refine v_i2l (n' := 43) h dX0_digest_42 rfl (by omega) ?_
    refine vc_callS (n' := 46) h ((c_mixed de hp39 _ _).d hde) (lw_S q922 q923 q82 q924) hdX0_mixed ⟨by omega, by decide⟩ ⟨by omega, by omega⟩ (Nat.le_of_ble_eq_true rfl) dX0_digest_43 rfl (eJ fun z43 hp43 p43 => ?_) rfl
    obtain ⟨ez43, fz43⟩ := p43
    have ez43 := ez43.symm
    have fz43 := fz43.symm
    subst ez43 fz43
    refine v_lstore1 (n' := 47) h dX0_digest_46 rfl rfl ?_
    refine v_iconst (n' := 48) h dX0_digest_47 rfl ?_
    refine v_istore3 (n' := 49) h dX0_digest_48 rfl rfl ?_
    refine V.widen (k2 := 4249) (n2 := 82402) (by omega) (by omega) (loopP hp39 ⟨W39, A1, t1, kt1, σ1, ad1, H39, X1⟩ (sPn s).toNat 0 _ (by omega) ?_)
    unfold dgM
    rw [← List.append_assoc, List.foldl_append, ← ed]
    rfl
  refine v_aload_n (n' := 1) h dX0_digest_0 rfl rfl ?_
  refine v_ldc2 (n' := 4) (z := 1373) h dX0_digest_1 rfl q917 (by decide) ?_
  refine vc_callV (n' := 7) (ci := 0) h ((c_mixedEntries de hp W ax A t kt σ ad s n hH hX hi hn 1373).d hde) rfl (by first | assumption | exact upH_s | exact (upH_n (by assumption)).trans (by assumption) | exact (upH_n (by assumption)).trans upH_s | exact (upH_n (by assumption)).trans ((upH_n (by assumption)).trans (by assumption))) (lw_V q918 q920 qs36 q82 q921) hdX0_mixedEntries ⟨by omega, by decide⟩ ⟨by omega, by omega⟩ (Nat.le_of_ble_eq_true rfl) dX0_digest_4 rfl (eJ fun z4 hp4 p4 => ?_) rfl
  obtain ⟨ez4, H4⟩ := p4
  subst ez4
  have hx4 := H4.1.1
  have C4' : CRel de hp4 ax s := ⟨W, A, t, kt, σ, ad, H4, hX⟩
  refine v_lstore1 (n' := 8) h dX0_digest_7 rfl rfl ?_
  refine v_aload_n (n' := 9) h dX0_digest_8 rfl rfl ?_
  refine vc_callV (n' := 12) (ci := 0) h ((c_isShelf de hp4 ax A t kt σ hx4 (by omega)).d hde) rfl (by first | assumption | exact upH_s | exact (upH_n (by assumption)).trans (by assumption) | exact (upH_n (by assumption)).trans upH_s | exact (upH_n (by assumption)).trans ((upH_n (by assumption)).trans (by assumption))) (lw_V q684 q686 qs22 q82 q687) hdX0_isShelf ⟨by omega, by decide⟩ ⟨by omega, by omega⟩ (Nat.le_of_ble_eq_true rfl) dX0_digest_9 rfl (eI fun z9 hp9 p9 => ?_) rfl
  obtain ⟨ez9, fz9⟩ := p9
  have ez9 := ez9.symm
  have fz9 := fz9.symm
  subst ez9 fz9
  refine v_bif_eq (n' := 15) (tgt := 23) h dX0_digest_12 rfl rfl (fun c12 => ?_) (fun c12 => ?_)
  · refine v_lload_n (n' := 24) h dX0_digest_23 rfl rfl ?_
    exact V.widen (by omega) (by omega) (tail hp4 _ _ C4' (by rw [if_pos (by omega), List.append_nil]))
  · refine v_aload_n (n' := 16) h dX0_digest_15 rfl rfl ?_
    refine v_lload_n (n' := 17) h dX0_digest_16 rfl rfl ?_
    refine vc_callV (n' := 20) (ci := 0) h ((c_mixedShelf de hp4 ax s n C4' hi hn (by omega) _).d hde) rfl (by first | assumption | exact upH_s | exact (upH_n (by assumption)).trans (by assumption) | exact (upH_n (by assumption)).trans upH_s | exact (upH_n (by assumption)).trans ((upH_n (by assumption)).trans (by assumption))) (lw_V q926 q928 qs37 q82 q929) hdX0_mixedShelf ⟨by omega, by decide⟩ ⟨by omega, by omega⟩ (Nat.le_of_ble_eq_true rfl) dX0_digest_17 rfl (eJ fun z17 hp17 p17 => ?_) rfl
    obtain ⟨ez17, C17⟩ := p17
    subst ez17
    refine v_goto (tgt := 24) h dX0_digest_20 rfl ?_
    exact tail hp17 _ _ C17 (by rw [if_neg (by omega), List.foldl_append])
