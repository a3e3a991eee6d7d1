/-! THE CLASS: ask, sorts -/
set_option maxRecDepth 100000
def us (x : Int32) (k : Int) : Int32 := (x.toUInt32 >>> ((iI k).toUInt32 &&& Int32.toUInt32 31)).toInt32
def bc1 (x : Int32) : Int32 := x - (us x 1 &&& iI 1431655765)
def bc2 (x : Int32) : Int32 := (x &&& iI 858993459) + (us x 2 &&& iI 858993459)
def bc3 (x : Int32) : Int32 := (x + us x 4) &&& iI 252645135
def bc4 (x : Int32) : Int32 := x + us x 8
def bc5 (x : Int32) : Int32 := x + us x 16
def bcE (x : Int32) : Int32 := bc5 (bc4 (bc3 (bc2 (bc1 x)))) &&& iI 63
theorem bcE_ok : ∀ n : Fin 32, bcE (iI (n.val : Int)) = iI ((onesN n.val : Nat) : Int) := by decide +kernel
theorem c_bitCount (de : Nat) (hp : AH) (m : Nat) (hm : m < 32) : CtE de yJ10_bitCount cJ10_bitCount 1 (some .int) (rmK 1 0 0) [.int (iI m)] hp (rI (fun z hp' => z = (onesN m : Int) ∧ hp' = hp)) := by
  refine CtE.of (by decide) (EL.c1 rfl EL.n0) (fun Γ h hq hnm hde => ?_)
  refine v_iload_n (n' := 1) h dJ10_bitCount_0 rfl rfl ?_
  refine v_iload_n (n' := 2) h dJ10_bitCount_1 rfl rfl ?_
  refine v_iconst (n' := 3) h dJ10_bitCount_2 rfl ?_
  refine v_iushr (n' := 4) h dJ10_bitCount_3 rfl rfl ?_
  refine v_ldcw (n' := 7) (z := 1431655765) h dJ10_bitCount_4 rfl q878 (by decide) ?_
  refine v_iand (n' := 8) h dJ10_bitCount_7 rfl rfl ?_
  refine v_isub32 (n' := 9) h dJ10_bitCount_8 rfl ?_
  refine v_istore0 (n' := 10) h dJ10_bitCount_9 rfl ?_
  refine v_iload_n (n' := 11) h dJ10_bitCount_10 rfl rfl ?_
  refine v_ldcw (n' := 14) (z := 858993459) h dJ10_bitCount_11 rfl q879 (by decide) ?_
  refine v_iand (n' := 15) h dJ10_bitCount_14 rfl rfl ?_
  refine v_iload_n (n' := 16) h dJ10_bitCount_15 rfl rfl ?_
  refine v_iconst (n' := 17) h dJ10_bitCount_16 rfl ?_
  refine v_iushr (n' := 18) h dJ10_bitCount_17 rfl rfl ?_
  refine v_ldcw (n' := 21) (z := 858993459) h dJ10_bitCount_18 rfl q879 (by decide) ?_
  refine v_iand (n' := 22) h dJ10_bitCount_21 rfl rfl ?_
  refine v_iadd32 (n' := 23) h dJ10_bitCount_22 rfl ?_
  refine v_istore0 (n' := 24) h dJ10_bitCount_23 rfl ?_
  refine v_iload_n (n' := 25) h dJ10_bitCount_24 rfl rfl ?_
  refine v_iload_n (n' := 26) h dJ10_bitCount_25 rfl rfl ?_
  refine v_iconst (n' := 27) h dJ10_bitCount_26 rfl ?_
  refine v_iushr (n' := 28) h dJ10_bitCount_27 rfl rfl ?_
  refine v_iadd32 (n' := 29) h dJ10_bitCount_28 rfl ?_
  refine v_ldcw (n' := 32) (z := 252645135) h dJ10_bitCount_29 rfl q880 (by decide) ?_
  refine v_iand (n' := 33) h dJ10_bitCount_32 rfl rfl ?_
  refine v_istore0 (n' := 34) h dJ10_bitCount_33 rfl ?_
  refine v_iload_n (n' := 35) h dJ10_bitCount_34 rfl rfl ?_
  refine v_iload_n (n' := 36) h dJ10_bitCount_35 rfl rfl ?_
  refine v_bipush (n' := 38) h dJ10_bitCount_36 rfl (by decide) ?_
  refine v_iushr (n' := 39) h dJ10_bitCount_38 rfl rfl ?_
  refine v_iadd32 (n' := 40) h dJ10_bitCount_39 rfl ?_
  refine v_istore0 (n' := 41) h dJ10_bitCount_40 rfl ?_
  refine v_iload_n (n' := 42) h dJ10_bitCount_41 rfl rfl ?_
  refine v_iload_n (n' := 43) h dJ10_bitCount_42 rfl rfl ?_
  refine v_bipush (n' := 45) h dJ10_bitCount_43 rfl (by decide) ?_
  refine v_iushr (n' := 46) h dJ10_bitCount_45 rfl rfl ?_
  refine v_iadd32 (n' := 47) h dJ10_bitCount_46 rfl ?_
  refine v_istore0 (n' := 48) h dJ10_bitCount_47 rfl ?_
  refine v_iload_n (n' := 49) h dJ10_bitCount_48 rfl rfl ?_
  refine v_bipush (n' := 51) h dJ10_bitCount_49 rfl (by decide) ?_
  refine v_iand (n' := 52) h dJ10_bitCount_51 rfl rfl ?_
  refine v_iret h hq dJ10_bitCount_52 (by omega) (by omega) ⟨(onesN m : Int), congrArg (fun v => some (Value.int v)) (bcE_ok ⟨m, hm⟩), rfl, rfl⟩
theorem bit_1 : ∀ n : Fin 32, ∀ k : Fin 5, (n.val / 2 ^ k.val % 2 = 1) ↔ n.val.testBit k.val = true := by decide +kernel
theorem c_isIn (de : Nat) (hp : AH) (m k : Nat) (hm : m < 32) (hk : k < 5) : CtE de yX0_isIn cX0_isIn 2 (some .boolean) (rmK 1 0 0) [.int (iI m), .int (iI k)] hp (rI (fun z hp' => z = bi (m.testBit k = true) ∧ hp' = hp)) := by
  have hb := bit_1 ⟨m, hm⟩ ⟨k, hk⟩
  simp only at hb
  refine CtE.of (by decide) (EL.c1 rfl (EL.c1 rfl EL.n0)) (fun Γ h hq hnm hde => ?_)
  refine v_iload_n (n' := 1) h dX0_isIn_0 rfl rfl ?_
  refine v_iload_n (n' := 2) h dX0_isIn_1 rfl rfl ?_
  refine v_ishr (n' := 3) h dX0_isIn_2 rfl (shr_nat (by omega) (by omega)) ?_
  refine v_iconst (n' := 4) h dX0_isIn_3 rfl ?_
  refine v_iand (n' := 5) h dX0_isIn_4 rfl (and_one _) ?_
  refine v_iconst (n' := 6) h dX0_isIn_5 rfl ?_
  refine v_icmp_ne (n' := 9) (tgt := 13) h dX0_isIn_6 rfl rfl (by omega) (by omega) (fun c6 => ?_) (fun c6 => ?_)
  · refine v_iconst (n' := 14) h dX0_isIn_13 rfl ?_
    refine v_zret h hq dX0_isIn_14 (by decide) (by omega) (by omega) (ret_i ?_)
    exact ⟨(bi_f (fun z => by have := hb.mpr z; omega)).symm, rfl⟩
  · refine v_iconst (n' := 10) h dX0_isIn_9 rfl ?_
    refine v_goto (tgt := 14) h dX0_isIn_10 rfl ?_
    refine v_zret h hq dX0_isIn_14 (by decide) (by omega) (by omega) (ret_i ?_)
    exact ⟨(bi_t (hb.mp (by omega))).symm, rfl⟩
theorem ones_s {b : Nat} (hb : b < 32) {w : Int} (hw : 0 ≤ w ∧ w ≤ 3) {k : Nat} (hk : k < 5) : (b &&& sbN w) / 2 ^ k % 2 = if b.testBit k = true ∧ (sbN w).testBit k = true then 1 else 0 := by
  have h1 : (b &&& sbN w) < 32 := Nat.lt_of_le_of_lt Nat.and_le_left hb
  have q := bit_1 ⟨b &&& sbN w, h1⟩ ⟨k, hk⟩
  simp only [Nat.testBit_and, Bool.and_eq_true] at q
  split
  · rename_i c; exact q.mpr c
  · rename_i c
    have : ¬ (b &&& sbN w) / 2 ^ k % 2 = 1 := fun z => c (q.mp z)
    omega
theorem c_askOf (de : Nat) (hp : AH) (W : Nat → Prop) (ax : Nat) (A : Nat → Nat) (t : Nat) (kt : Option Nat) (σ : MS) (ad : Nat → Nat) (s : SS) (hH : CH de hp W ax A t kt σ ad s) (hX : XS σ s) (hS : SeenOk (sC s).2.2.2.2) (key : Int) (hk : -2147483648 ≤ key ∧ key ≤ 2147483647) : CtE de yX0_askOf cX0_askOf 8 (some .int) (rmK 11 300 1500) [.ref ax, .int (iI key)] hp (rI (fun z hp' => z = askV (srtN (sC s).2.2.2.2 key) ∧ ∃ W', CH de hp' W' ax A t kt σ ad s)) := by
  have hx := hH.1.1
  have hN := srtN_lt (sC s).2.2.2.2 key
  have cs := c_sortsOf de hp W ax A t kt σ ad s hH hX hS key hk
  generalize srtN (sC s).2.2.2.2 key = N at hN cs ⊢
  have ho := onesF_le N 5
  refine CtE.of (by decide) (EL.c1 rfl (EL.c1 rfl (EL.nn (EL.nn (EL.nn (EL.nn (EL.nn (EL.nn EL.n0)))))))) (fun Γ h hq hnm hde => ?_)
  have loop : ∀ (m w : Nat) (hp1 : AH) (W1 : Nat → Prop) (bst lst : Int) (v6 v7 : Option Value), w + m = 4 → c2 v6 = false → CH de hp1 W1 ax A t kt σ ad s → (if N = 0 then bst = -1 ∧ lst = 0 else bst = (askF N w).1 ∧ (if w = 0 then lst = 1048576 else lst = (askF N w).2)) → V Γ (180 + 30 * w) (900 + 150 * w) hp1 24 [some (.ref ax), some (.int (iI key)), some (.int (iI N)), some (.int (iI bst)), some (.int (iI lst)), some (.int (iI w)), v6, v7] [] := by
    intro m
    induction m with
    | zero =>
      intro w hp1 W1 bst lst v6 v7 hm hv6 H1 hI
      obtain rfl : w = 4 := by omega
      refine v_iload (n' := 26) h dX0_askOf_24 rfl rfl ?_
      refine v_iconst (n' := 27) h dX0_askOf_26 rfl ?_
      refine v_icmp_ge (n' := 30) (tgt := 121) h dX0_askOf_27 rfl rfl (by omega) (by omega) (fun c27 => ?_) (fun c27 => ?_)
      · refine v_iload_n (n' := 122) h dX0_askOf_121 rfl rfl ?_
        refine v_iret h hq dX0_askOf_122 (by omega) (by omega) (ret_i ?_)
        refine ⟨?_, W1, H1⟩
        unfold askV
        by_cases c0 : N = 0
        · rw [if_pos c0] at hI ⊢; exact hI.1
        · rw [if_neg c0] at hI ⊢; exact hI.1
      · omega
    | succ m ih =>
      intro w hp1 W1 bst lst v6 v7 hm hv6 H1 hI
      have ew : ((w + 1 : Nat) : Int) = (w : Int) + 1 := by omega
      have inner : ∀ (mm k : Nat) (hp2 : AH) (W2 : Nat → Prop), k + mm = 5 → CH de hp2 W2 ax A t kt σ ad s → V Γ (180 + 30 * w + 6 * k) (900 + 150 * w + 30 * k) hp2 36 [some (.ref ax), some (.int (iI key)), some (.int (iI N)), some (.int (iI bst)), some (.int (iI lst)), some (.int (iI w)), some (.int (iI ((onesF (N &&& sbN (w : Int)) k : Nat) : Int))), some (.int (iI k))] [] := by
        intro mm
        induction mm with
        | zero =>
          intro k hp2 W2 hk2 H2
          obtain rfl : k = 5 := by omega
          have haw := askW_r N w
          have hfr := askF_r N w (by omega)
          have hof := onesF_le (N &&& sbN (w : Int)) 5
          have eaw : mx ((onesF (N &&& sbN (w : Int)) 5 : Nat) : Int) ((onesN N : Int) - ((onesF (N &&& sbN (w : Int)) 5 : Nat) : Int)) = askW N w := rfl
          have eN0 : N = 0 → askW N w = 0 := fun z => by
            subst z
            unfold askW
            rw [Nat.zero_and]
            rfl
          have hon : onesN N ≤ 5 := ho
          have hlr : -5 ≤ lst ∧ lst ≤ 1048576 := by
            by_cases c0 : N = 0
            · rw [if_pos c0] at hI; omega
            · rw [if_neg c0] at hI
              by_cases c1 : w = 0
              · have := hI.2; rw [if_pos c1] at this; omega
              · have := hI.2; rw [if_neg c1] at this; omega
          have hbr : -1 ≤ bst ∧ bst ≤ 4 := by
            by_cases c0 : N = 0
            · rw [if_pos c0] at hI; omega
            · rw [if_neg c0] at hI; have := hI.1; omega
          have es : askF N (w + 1) = if askW N w < (askF N w).2 then ((w : Int), askW N w) else askF N w := rfl
          refine v_iload (n' := 38) h dX0_askOf_36 rfl rfl ?_
          refine v_iconst (n' := 39) h dX0_askOf_38 rfl ?_
          refine v_icmp_ge (n' := 42) (tgt := 78) h dX0_askOf_39 rfl rfl (by omega) (by omega) (fun c39 => ?_) (fun c39 => ?_)
          · refine v_iload (n' := 80) h dX0_askOf_78 rfl rfl ?_
            refine v_iload_n (n' := 81) h dX0_askOf_80 rfl rfl ?_
            refine vc_callS (n' := 84) h ((c_bitCount de hp2 N hN).d hde) (lw_S q875 q876 q103 q877) hdJ10_bitCount ⟨by omega, by decide⟩ ⟨by omega, by omega⟩ (Nat.le_of_ble_eq_true rfl) dX0_askOf_81 rfl (eI fun z81 hp81 p81 => ?_) rfl
            obtain ⟨ez81, fz81⟩ := p81
            have ez81 := ez81.symm
            have fz81 := fz81.symm
            subst ez81 fz81
            refine v_iload (n' := 86) h dX0_askOf_84 rfl rfl ?_
            refine v_isub (n' := 87) h dX0_askOf_86 rfl ?_
            refine v_mmax (n' := 90) h q782 q502 q92 q503 (rm1 (by omega)) (Nat.le_of_ble_eq_true rfl) (rmC (by omega)) (rmS (by omega)) dX0_askOf_87 rfl (by omega) (by omega) ?_
            rw [eaw]
            refine v_istore7 (n' := 92) h dX0_askOf_90 rfl rfl ?_
            refine v_iload (n' := 94) h dX0_askOf_92 rfl rfl ?_
            refine v_iload (n' := 96) h dX0_askOf_94 rfl rfl ?_
            refine v_icmp_ge (n' := 99) (tgt := 104) h dX0_askOf_96 rfl rfl (by omega) (by omega) (fun c96 => ?_) (fun c96 => ?_)
            · refine v_iload_n (n' := 105) h dX0_askOf_104 rfl rfl ?_
              refine v_istore3 (n' := 106) h dX0_askOf_105 rfl rfl ?_
              refine v_iload (n' := 108) h dX0_askOf_106 rfl rfl ?_
              refine v_iload (n' := 110) h dX0_askOf_108 rfl rfl ?_
              refine v_mmin (n' := 113) h q754 q379 q92 q380 (rm1 (by omega)) (Nat.le_of_ble_eq_true rfl) (rmC (by omega)) (rmS (by omega)) dX0_askOf_110 rfl (by omega) (by omega) ?_
              refine v_istore4 (n' := 115) h dX0_askOf_113 rfl rfl ?_
              refine v_iinc5 (n' := 118) h dX0_askOf_115 rfl rfl ?_
              refine v_goto (tgt := 24) h dX0_askOf_118 rfl ?_
              rw [← ew]
              refine V.widen (k2 := 180 + 30 * (w + 1)) (n2 := 900 + 150 * (w + 1)) (by omega) (by omega) (ih (w + 1) hp2 W2 _ _ _ _ (by omega) rfl H2 ?_)
              by_cases c0 : N = 0
              · rw [if_pos c0] at hI ⊢
                have := eN0 c0
                refine ⟨hI.1, ?_⟩
                unfold mn
                split <;> omega
              · rw [if_neg c0] at hI ⊢
                have hw0 : w ≠ 0 := fun z => by have := hI.2; rw [if_pos z] at this; omega
                have h2 := hI.2
                rw [if_neg hw0] at h2
                rw [if_neg (by omega), es, if_neg (by omega)]
                refine ⟨hI.1, ?_⟩
                unfold mn
                split <;> omega
            · refine v_iload (n' := 101) h dX0_askOf_99 rfl rfl ?_
              refine v_goto (tgt := 105) h dX0_askOf_101 rfl ?_
              refine v_istore3 (n' := 106) h dX0_askOf_105 rfl rfl ?_
              refine v_iload (n' := 108) h dX0_askOf_106 rfl rfl ?_
              refine v_iload (n' := 110) h dX0_askOf_108 rfl rfl ?_
              refine v_mmin (n' := 113) h q754 q379 q92 q380 (rm1 (by omega)) (Nat.le_of_ble_eq_true rfl) (rmC (by omega)) (rmS (by omega)) dX0_askOf_110 rfl (by omega) (by omega) ?_
              refine v_istore4 (n' := 115) h dX0_askOf_113 rfl rfl ?_
              refine v_iinc5 (n' := 118) h dX0_askOf_115 rfl rfl ?_
              refine v_goto (tgt := 24) h dX0_askOf_118 rfl ?_
              rw [← ew]
              refine V.widen (k2 := 180 + 30 * (w + 1)) (n2 := 900 + 150 * (w + 1)) (by omega) (by omega) (ih (w + 1) hp2 W2 _ _ _ _ (by omega) rfl H2 ?_)
              by_cases c0 : N = 0
              · rw [if_pos c0] at hI
                have := eN0 c0
                omega
              · rw [if_neg c0] at hI ⊢
                have hlt : askW N w < (askF N w).2 := by
                  by_cases hw0 : w = 0
                  · subst hw0
                    show askW N 0 < 6
                    omega
                  · have h2 := hI.2
                    rw [if_neg hw0] at h2
                    omega
                rw [if_neg (by omega), es, if_pos hlt]
                refine ⟨rfl, ?_⟩
                dsimp only
                unfold mn
                split <;> omega
          · omega
        | succ mm ihh =>
          intro k hp2 W2 hk2 H2
          have hx2 := H2.1.1
          have hof := onesF_le (N &&& sbN (w : Int)) k
          have hos : onesF (N &&& sbN (w : Int)) (k + 1) = onesF (N &&& sbN (w : Int)) k + (N &&& sbN (w : Int)) / 2 ^ k % 2 := rfl
          have hoo := ones_s hN (w := (w : Int)) (by omega) (k := k) (by omega)
          obtain ⟨qb, -⟩ := sb_bit (w := (w : Int)) (by omega) (kd := k) (by omega)
          have ek : ((k + 1 : Nat) : Int) = (k : Int) + 1 := by omega
          refine v_iload (n' := 38) h dX0_askOf_36 rfl rfl ?_
          refine v_iconst (n' := 39) h dX0_askOf_38 rfl ?_
          refine v_icmp_ge (n' := 42) (tgt := 78) h dX0_askOf_39 rfl rfl (by omega) (by omega) (fun c39 => ?_) (fun c39 => ?_)
          · omega
          · refine v_iload (n' := 44) h dX0_askOf_42 rfl rfl ?_
            refine v_iload_n (n' := 45) h dX0_askOf_44 rfl rfl ?_
            refine v_iload (n' := 47) h dX0_askOf_45 rfl rfl ?_
            refine vc_callS (n' := 50) h ((c_isIn de hp2 N k hN (by omega)).d hde) (lw_S q872 q873 q82 q874) hdX0_isIn ⟨by omega, by decide⟩ ⟨by omega, by omega⟩ (Nat.le_of_ble_eq_true rfl) dX0_askOf_47 rfl (eI fun z47 hp47 p47 => ?_) rfl
            obtain ⟨ez47, fz47⟩ := p47
            have ez47 := ez47.symm
            have fz47 := fz47.symm
            subst ez47 fz47
            refine v_bif_eq (n' := 53) (tgt := 68) h dX0_askOf_50 rfl rfl (fun c50 => ?_) (fun c50 => ?_)
            · refine v_iconst (n' := 69) h dX0_askOf_68 rfl ?_
              refine v_iadd (n' := 70) h dX0_askOf_69 rfl ?_
              refine v_istore6 (n' := 72) h dX0_askOf_70 rfl rfl ?_
              refine v_iinc7 (n' := 75) h dX0_askOf_72 rfl rfl ?_
              refine v_goto (tgt := 36) h dX0_askOf_75 rfl ?_
              rw [if_neg (fun z => c50 z.1)] at hoo
              rw [← ek]
              have q := ihh (k + 1) hp2 W2 (by omega) H2
              rw [hos, hoo] at q
              exact V.widen (by omega) (by omega) q
            · refine v_aload_n (n' := 54) h dX0_askOf_53 rfl rfl ?_
              refine v_iload (n' := 56) h dX0_askOf_54 rfl rfl ?_
              refine v_iload (n' := 58) h dX0_askOf_56 rfl rfl ?_
              refine vc_callV (n' := 61) (ci := 0) h ((c_wouldDo de hp2 W2 ax A t kt σ ad s H2 k (by omega) (w : Int) (by omega)).d hde) rfl (by first | assumption | exact upH_s | exact (upH_n (by assumption)).trans (by assumption) | exact (upH_n (by assumption)).trans upH_s | exact (upH_n (by assumption)).trans ((upH_n (by assumption)).trans (by assumption))) (lw_V q849 q851 qs31 q82 q852) hdX0_wouldDo ⟨by omega, by decide⟩ ⟨by omega, by omega⟩ (Nat.le_of_ble_eq_true rfl) dX0_askOf_58 rfl (eI fun z58 hp58 p58 => ?_) rfl
              obtain ⟨ez58, W58, H58⟩ := p58
              subst ez58
              refine v_bif_eq (n' := 64) (tgt := 68) h dX0_askOf_61 rfl rfl (fun c61 => ?_) (fun c61 => ?_)
              · refine v_iconst (n' := 69) h dX0_askOf_68 rfl ?_
                refine v_iadd (n' := 70) h dX0_askOf_69 rfl ?_
                refine v_istore6 (n' := 72) h dX0_askOf_70 rfl rfl ?_
                refine v_iinc7 (n' := 75) h dX0_askOf_72 rfl rfl ?_
                refine v_goto (tgt := 36) h dX0_askOf_75 rfl ?_
                rw [if_neg (fun z => c61 (qb.mp z.2))] at hoo
                rw [← ek]
                have q := ihh (k + 1) hp58 W58 (by omega) H58
                rw [hos, hoo] at q
                exact V.widen (by omega) (by omega) q
              · refine v_iconst (n' := 65) h dX0_askOf_64 rfl ?_
                refine v_goto (tgt := 69) h dX0_askOf_65 rfl ?_
                refine v_iadd (n' := 70) h dX0_askOf_69 rfl ?_
                refine v_istore6 (n' := 72) h dX0_askOf_70 rfl rfl ?_
                refine v_iinc7 (n' := 75) h dX0_askOf_72 rfl rfl ?_
                refine v_goto (tgt := 36) h dX0_askOf_75 rfl ?_
                rw [if_pos ⟨c50, qb.mpr c61⟩] at hoo
                rw [← ek]
                have q := ihh (k + 1) hp58 W58 (by omega) H58
                rw [hos, hoo] at q
                exact V.widen (by omega) (by omega) q
      refine v_iload (n' := 26) h dX0_askOf_24 rfl rfl ?_
      refine v_iconst (n' := 27) h dX0_askOf_26 rfl ?_
      refine v_icmp_ge (n' := 30) (tgt := 121) h dX0_askOf_27 rfl rfl (by omega) (by omega) (fun c27 => ?_) (fun c27 => ?_)
      · omega
      · refine v_iconst (n' := 31) h dX0_askOf_30 rfl ?_
        refine v_istore6 (n' := 33) h dX0_askOf_31 rfl rfl ?_
        refine v_iconst (n' := 34) h dX0_askOf_33 rfl ?_
        refine v_istore7 (n' := 36) h dX0_askOf_34 rfl rfl ?_
        exact inner 5 0 hp1 W1 (by omega) H1
  refine v_aload_n (n' := 1) h dX0_askOf_0 rfl rfl ?_
  refine v_iload_n (n' := 2) h dX0_askOf_1 rfl rfl ?_
  refine vc_callV (n' := 5) (ci := 0) h ((cs).d hde) rfl (by first | assumption | exact upH_s | exact (upH_n (by assumption)).trans (by assumption) | exact (upH_n (by assumption)).trans upH_s | exact (upH_n (by assumption)).trans ((upH_n (by assumption)).trans (by assumption))) (lw_V q845 q847 qs30 q82 q848) hdX0_sortsOf ⟨by omega, by decide⟩ ⟨by omega, by omega⟩ (Nat.le_of_ble_eq_true rfl) dX0_askOf_2 rfl (eI fun z2 hp2 p2 => ?_) rfl
  obtain ⟨ez2, W2, H2⟩ := p2
  subst ez2
  refine v_istore2 (n' := 6) h dX0_askOf_5 rfl rfl ?_
  refine v_iconst (n' := 7) h dX0_askOf_6 rfl ?_
  refine v_istore3 (n' := 8) h dX0_askOf_7 rfl rfl ?_
  refine v_iload_n (n' := 9) h dX0_askOf_8 rfl rfl ?_
  refine v_if_ne (n' := 12) (tgt := 16) h dX0_askOf_9 rfl rfl (by omega) (fun c9 => ?_) (fun c9 => ?_)
  · refine v_ldcw (n' := 19) (z := 1048576) h dX0_askOf_16 rfl q871 (by decide) ?_
    refine v_istore4 (n' := 21) h dX0_askOf_19 rfl rfl ?_
    refine v_iconst (n' := 22) h dX0_askOf_21 rfl ?_
    refine v_istore5 (n' := 24) h dX0_askOf_22 rfl rfl ?_
    exact loop 4 0 hp2 W2 (-1) 1048576 none none (by omega) rfl H2 (by rw [if_neg (by omega)]; exact ⟨rfl, by rw [if_pos rfl]⟩)
  · refine v_iconst (n' := 13) h dX0_askOf_12 rfl ?_
    refine v_goto (tgt := 19) h dX0_askOf_13 rfl ?_
    refine v_istore4 (n' := 21) h dX0_askOf_19 rfl rfl ?_
    refine v_iconst (n' := 22) h dX0_askOf_21 rfl ?_
    refine v_istore5 (n' := 24) h dX0_askOf_22 rfl rfl ?_
    exact loop 4 0 hp2 W2 (-1) 0 none none (by omega) rfl H2 (by rw [if_pos (by omega)]; exact ⟨rfl, rfl⟩)
theorem k_sorts (de : Nat) (hp : AH) (ax : Nat) (s : SS) (n : Int) (hC : CRel de hp ax s) (hi : SInv s n) (hn : n ≤ 64) (key what : Int) (hk : -2147483648 ≤ key ∧ key ≤ 2147483647) (hw : -2147483648 ≤ what ∧ what ≤ 2147483647) : CtE de yX0_sorts cX0_sorts 3 (some .int) (rmK 12 300 1500) [.ref ax, .int (iI key), .int (iI what)] hp (rI (fun z hp' => z = oSorts s key what ∧ CRel de hp' ax s)) := by
  have hC2 := hC
  obtain ⟨W, A, t, kt, σ, ad, hH, hX⟩ := hC2
  have hx := hH.1.1
  have hS : SeenOk (sC s).2.2.2.2 := hi.2.2.2.2.1.2.2.2.2.2.2
  unfold oSorts
  refine CtE.of (by decide) (EL.c1 rfl (EL.c1 rfl (EL.c1 rfl EL.n0))) (fun Γ h hq hnm hde => ?_)
  refine v_iload_n (n' := 1) h dX0_sorts_0 rfl rfl ?_
  refine v_iconst (n' := 2) h dX0_sorts_1 rfl ?_
  refine v_bipush (n' := 4) h dX0_sorts_2 rfl (by decide) ?_
  refine vc_callS (n' := 7) h ((c_in de hp key 0 99 hk (by omega) (by omega)).d hde) (lw_S q255 q256 q82 q257) hdX0_in ⟨by omega, by decide⟩ ⟨by omega, by omega⟩ (Nat.le_of_ble_eq_true rfl) dX0_sorts_4 rfl (eI fun z4 hp4 p4 => ?_) rfl
  obtain ⟨ez4, fz4⟩ := p4
  have ez4 := ez4.symm
  have fz4 := fz4.symm
  subst ez4 fz4
  refine v_bif_eq (n' := 10) (tgt := 19) h dX0_sorts_7 rfl rfl (fun c7 => ?_) (fun c7 => ?_)
  · refine v_bipush (n' := 21) h dX0_sorts_19 rfl (by decide) ?_
    refine v_goto (tgt := 41) h dX0_sorts_21 rfl ?_
    refine v_iret h hq dX0_sorts_41 (by omega) (by omega) (ret_i ?_)
    exact ⟨by rw [if_pos (by omega)], hC⟩
  · refine v_iload_n (n' := 11) h dX0_sorts_10 rfl rfl ?_
    refine v_iconst (n' := 12) h dX0_sorts_11 rfl ?_
    refine v_iconst (n' := 13) h dX0_sorts_12 rfl ?_
    refine vc_callS (n' := 16) h ((c_in de hp what 0 1 hw (by omega) (by omega)).d hde) (lw_S q255 q256 q82 q257) hdX0_in ⟨by omega, by decide⟩ ⟨by omega, by omega⟩ (Nat.le_of_ble_eq_true rfl) dX0_sorts_13 rfl (eI fun z13 hp13 p13 => ?_) rfl
    obtain ⟨ez13, fz13⟩ := p13
    have ez13 := ez13.symm
    have fz13 := fz13.symm
    subst ez13 fz13
    refine v_bif_ne (n' := 19) (tgt := 24) h dX0_sorts_16 rfl rfl (fun c16 => ?_) (fun c16 => ?_)
    · refine v_iload_n (n' := 25) h dX0_sorts_24 rfl rfl ?_
      refine v_if_ne (n' := 28) (tgt := 36) h dX0_sorts_25 rfl rfl (by omega) (fun c25 => ?_) (fun c25 => ?_)
      · refine v_aload_n (n' := 37) h dX0_sorts_36 rfl rfl ?_
        refine v_iload_n (n' := 38) h dX0_sorts_37 rfl rfl ?_
        refine vc_callV (n' := 41) (ci := 0) h ((c_askOf de hp W ax A t kt σ ad s hH hX hS key hk).d hde) rfl (by first | assumption | exact upH_s | exact (upH_n (by assumption)).trans (by assumption) | exact (upH_n (by assumption)).trans upH_s | exact (upH_n (by assumption)).trans ((upH_n (by assumption)).trans (by assumption))) (lw_V q867 q869 qs32 q82 q870) hdX0_askOf ⟨by omega, by decide⟩ ⟨by omega, by omega⟩ (Nat.le_of_ble_eq_true rfl) dX0_sorts_38 rfl (eI fun z38 hp38 p38 => ?_) rfl
        obtain ⟨ez38, W38, H38⟩ := p38
        subst ez38
        refine v_iret h hq dX0_sorts_41 (by omega) (by omega) (ret_i ?_)
        exact ⟨by rw [if_neg (by omega), if_neg (by omega)], W38, A, t, kt, σ, ad, H38, hX⟩
      · refine v_aload_n (n' := 29) h dX0_sorts_28 rfl rfl ?_
        refine v_iload_n (n' := 30) h dX0_sorts_29 rfl rfl ?_
        refine vc_callV (n' := 33) (ci := 0) h ((c_sortsOf de hp W ax A t kt σ ad s hH hX hS key hk).d hde) rfl (by first | assumption | exact upH_s | exact (upH_n (by assumption)).trans (by assumption) | exact (upH_n (by assumption)).trans upH_s | exact (upH_n (by assumption)).trans ((upH_n (by assumption)).trans (by assumption))) (lw_V q845 q847 qs30 q82 q848) hdX0_sortsOf ⟨by omega, by decide⟩ ⟨by omega, by omega⟩ (Nat.le_of_ble_eq_true rfl) dX0_sorts_30 rfl (eI fun z30 hp30 p30 => ?_) rfl
        obtain ⟨ez30, W30, H30⟩ := p30
        subst ez30
        refine v_goto (tgt := 41) h dX0_sorts_33 rfl ?_
        refine v_iret h hq dX0_sorts_41 (by omega) (by omega) (ret_i ?_)
        exact ⟨by rw [if_neg (by omega), if_pos (by omega)], W30, A, t, kt, σ, ad, H30, hX⟩
    · refine v_bipush (n' := 21) h dX0_sorts_19 rfl (by decide) ?_
      refine v_goto (tgt := 41) h dX0_sorts_21 rfl ?_
      refine v_iret h hq dX0_sorts_41 (by omega) (by omega) (ret_i ?_)
      exact ⟨by rw [if_pos (by omega)], hC⟩
