/-! MODEL 14: drawn by a seed -/
set_option maxRecDepth 100000
def rnd (x : Int) : Int := (1103515245 * x + 12345) % 2147483648
theorem land31 {x : Int} (h : 0 ≤ x) : lI x &&& lI 2147483647 = lI (x % 2147483648) := by
  obtain ⟨m, rfl⟩ := Int.eq_ofNat_of_zero_le h
  apply Int64.toBitVec_inj.mp
  rw [Int64.toBitVec_and]
  have e1 : (lI (m : Int)).toBitVec = BitVec.ofNat 64 m := rfl
  have e2 : (lI 2147483647).toBitVec = BitVec.ofNat 64 (2 ^ 31 - 1) := rfl
  have e3 : (lI ((m : Int) % 2147483648)).toBitVec = BitVec.ofNat 64 (m % 2 ^ 31) := by
    have : (m : Int) % 2147483648 = ((m % 2 ^ 31 : Nat) : Int) := by omega
    rw [this]; rfl
  show (lI (m : Int)).toBitVec &&& _ = _
  rw [e1, e2, e3]
  apply BitVec.eq_of_toNat_eq
  rw [BitVec.toNat_and, BitVec.toNat_ofNat, BitVec.toNat_ofNat, BitVec.toNat_ofNat, Nat.mod_eq_of_lt (show 2 ^ 31 - 1 < 2 ^ 64 by decide), Nat.and_two_pow_sub_one_eq_mod]
  omega
theorem rnd_r (x : Int) : 0 ≤ rnd x ∧ rnd x < 2147483648 := by
  unfold rnd
  omega
theorem m_draw (σ : MS) (h30 : 0 ≤ σ.1 30 ∧ σ.1 30 < 2147483648) : MCi yX2_draw cX2_draw 2 (some .int) 1 [.int (iI 100)] σ (fun z σ' => z = rnd (σ.1 30) / 65536 % 100 ∧ σ' = setI σ 30 (rnd (σ.1 30))) := by
  intro ad hok hm
  have hr := rnd_r (σ.1 30)
  refine Ct.of (by decide) (EL.c1 rfl (EL.c1 rfl EL.n0)) (fun Γ h hq hnm => ?_)
  refine v_aload_n (n' := 1) h dX2_draw_0 rfl rfl ?_
  refine v_ldc2 (n' := 4) (z := 1103515245) h dX2_draw_1 rfl q1362 (by decide) ?_
  refine v_aload_n (n' := 5) h dX2_draw_4 rfl rfl ?_
  refine vm_geti (n' := 8) h hm 30 (by decide) q967 dX2_draw_5 rfl (fun g5 => ?_)
  refine v_i2l (n' := 9) h dX2_draw_8 rfl (by omega) ?_
  refine v_lmul (n' := 10) h dX2_draw_9 rfl ?_
  refine v_ldc2 (n' := 13) (z := 12345) h dX2_draw_10 rfl q1363 (by decide) ?_
  refine v_ladd (n' := 14) h dX2_draw_13 rfl ?_
  refine v_ldc2 (n' := 17) (z := 2147483647) h dX2_draw_14 rfl q1364 (by decide) ?_
  refine v_land (n' := 18) h dX2_draw_17 rfl (land31 (by omega)) ?_
  rw [show (1103515245 * σ.1 30 + 12345) % 2147483648 = rnd (σ.1 30) from rfl]
  refine v_l2i (n' := 19) h dX2_draw_18 rfl ?_
  refine vm_puti (n' := 22) h hm 30 (by decide) q967 dX2_draw_19 rfl (by omega) (fun m19 => ?_)
  refine v_aload_n (n' := 23) h dX2_draw_22 rfl rfl ?_
  refine vm_geti (n' := 26) h m19 30 (by decide) q967 dX2_draw_23 rfl (fun g23 => ?_)
  rw [setI_1s] at g23 ⊢
  refine v_ldcw (n' := 29) (z := 65536) h dX2_draw_26 rfl q1365 (by decide) ?_
  refine v_idiv (n' := 30) h dX2_draw_29 rfl (by omega) (by omega) ?_
  refine v_iload_n (n' := 31) h dX2_draw_30 rfl rfl ?_
  refine v_irem (n' := 32) h dX2_draw_31 rfl (by omega) (by omega) ?_
  refine v_iret h hq dX2_draw_32 (Nat.le_refl _) (Nat.le_refl _) (ret_mi m19 ?_)
  exact ⟨rfl, rfl⟩
noncomputable def drStep (a b fee : Int) (p : Int × Tre) : Int × Tre :=
  (rnd p.1, if (rnd p.1 / 65536 % 100).toNat ∈ tl p.2.1 then teLeave a b fee p.2 (rnd p.1 / 65536 % 100).toNat else if tz p.2.1 < 40 then teEnter a b fee p.2 (rnd p.1 / 65536 % 100).toNat else p.2)
noncomputable def drF (a b fee : Int) : Nat → Int × Tre → Int × Tre
  | 0, p => p
  | m + 1, p => drF a b fee m (drStep a b fee p)
noncomputable def drawnV (p : Int × Tre) (what : Int) : Int := if what = 0 then p.2.2.2.2.1 else if what = 1 then th p.2.1 else p.1
theorem drawn_TeB {a b fee B : Int} {p : Int × Tre} (hB : TeB p.2 B) (hB0 : 0 ≤ B) (hz : tz p.2.1 ≤ 40) (hf : 0 ≤ fee ∧ fee ≤ 9) : TeB (drStep a b fee p).2 (B + 450) := by
  unfold drStep
  dsimp only
  by_cases c : (rnd p.1 / 65536 % 100).toNat ∈ tl p.2.1
  · rw [if_pos c]
    refine teLeave_B hB hB0 hz ?_ hf
    rw [← tz_len]
    exact List.length_pos_of_mem c
  · rw [if_neg c]
    split
    · rename_i c2; exact teEnter_B hB hB0 c2 hf
    · exact hB.le (by omega)
theorem m_drawn_loop {Γ : GX} {s : SS} {n : Int} {ad : Nat → Nat} {times seed what : Int} {res : Int × Tre} (ht : 1 ≤ times ∧ times ≤ 60) (hw : 0 ≤ what ∧ what ≤ 2) (hok : AdOk ad) (hI : SInv s n) (h0 : ¬ sSh s = 0) (h : Ok0 cX2_drawn yX2_drawn.cls (some .int) (rmL 6) Γ) (hq : Rt (PI ad (fun z σ' => z = drawnV res what ∧ MRel σ' s)) 0 0 Γ) :
    ∀ (m : Nat) (p : Int × Tre) (σ : MS) (j : Int) (w : Option Value), j + (m : Int) = times → 0 ≤ j → MR σ → MRel σ s → RelT σ 1 p.2 → σ.1 30 = p.1 → (0 ≤ p.1 ∧ p.1 < 2147483648) → σ.1 16 = sA s → σ.1 17 = sB s → TeB p.2 (450 * j) → drF (sA s) (sB s) (sF s) m p = res → V Γ 0 0 (mH ad σ) 53 [some (.ref (ad 50)), some (.int (iI times)), some (.int (iI seed)), some (.int (iI what)), some (.int (iI j)), w] [] := by
  have hrat := hI.rat h0
  intro m
  induction m with
  | zero =>
    intro p σ j w hj hj0 hm hR hT h30 hp h16 h17 hB hres
    have hres : p = res := hres
    subst hres
    refine v_iload (n' := 55) h dX2_drawn_53 rfl rfl ?_
    refine v_iload_n (n' := 56) h dX2_drawn_55 rfl rfl ?_
    refine v_icmp_ge (n' := 59) (tgt := 115) h dX2_drawn_56 rfl rfl (by omega) (by omega) (fun c56 => ?_) (fun c56 => ?_)
    · refine v_iload_n (n' := 116) h dX2_drawn_115 rfl rfl ?_
      refine v_if_ne (n' := 119) (tgt := 128) h dX2_drawn_116 rfl rfl (by omega) (fun c116 => ?_) (fun c116 => ?_)
      · refine v_iload_n (n' := 129) h dX2_drawn_128 rfl rfl ?_
        refine v_iconst (n' := 130) h dX2_drawn_129 rfl ?_
        refine v_icmp_ne (n' := 133) (tgt := 141) h dX2_drawn_130 rfl rfl (by omega) (by omega) (fun c130 => ?_) (fun c130 => ?_)
        · refine v_aload_n (n' := 142) h dX2_drawn_141 rfl rfl ?_
          refine vm_geti (n' := 145) h hm 30 (by decide) q967 dX2_drawn_142 rfl (fun g142 => ?_)
          refine v_iret h hq dX2_drawn_145 (Nat.le_refl _) (Nat.le_refl _) (ret_mi hm ?_)
          exact ⟨by unfold drawnV; rw [if_neg c116, if_neg c130]; exact h30, hR⟩
        · refine v_aload_n (n' := 134) h dX2_drawn_133 rfl rfl ?_
          refine v_iconst (n' := 135) h dX2_drawn_134 rfl ?_
          refine vm_callI (n' := 138) h hok hm (m_tall _ _ (Or.inr rfl) _ hT.1) rfl (lw_V q1284 q1286 qs69 q87 q1287) hdX2_tall (by decide) ⟨Nat.zero_le _, Nat.zero_le _⟩ (Nat.le_of_ble_eq_true rfl) dX2_drawn_135 rfl rfl (fun z135 s135 p135 m135 => ?_)
          obtain ⟨ez135, fz135⟩ := p135
          have ez135 := ez135.symm
          have fz135 := fz135.symm
          subst ez135 fz135
          refine v_goto (tgt := 145) h dX2_drawn_138 rfl ?_
          refine v_iret h hq dX2_drawn_145 (Nat.le_refl _) (Nat.le_refl _) (ret_mi m135 ?_)
          exact ⟨by unfold drawnV; rw [if_neg c116, if_pos c130], hR⟩
      · refine v_aload_n (n' := 120) h dX2_drawn_119 rfl rfl ?_
        refine vm_geta (n' := 123) h 11 (by decide) q948 dX2_drawn_120 rfl ?_
        refine v_iconst (n' := 124) h dX2_drawn_123 rfl ?_
        refine vm_iald (n' := 125) h hok hm 11 2 (by decide) dX2_drawn_124 rfl (by omega) (by decide) (fun g124 => ?_)
        refine v_goto (tgt := 145) h dX2_drawn_125 rfl ?_
        refine v_iret h hq dX2_drawn_145 (Nat.le_refl _) (Nat.le_refl _) (ret_mi hm ?_)
        exact ⟨by unfold drawnV; rw [if_pos c116]; exact hT.2.2.2.2.1, hR⟩
    · exact absurd (show times ≤ j by omega) c56
  | succ m ih =>
    intro p σ j w hj hj0 hm hR hT h30 hp h16 h17 hB hres
    have hres : drF (sA s) (sB s) (sF s) m (drStep (sA s) (sB s) (sF s) p) = res := hres
    have hr := rnd_r p.1
    have hz := hT.1.2.2.2.2.2
    have hkr : (rnd p.1 / 65536 % 100).toNat < 100 := by omega
    have ekk : rnd p.1 / 65536 % 100 = (((rnd p.1 / 65536 % 100).toNat : Nat) : Int) := by omega
    have hth := hT.1.2.2.1 _ hkr
    have hTB := drawn_TeB (a := sA s) (b := sB s) (fee := sF s) hB (by omega) hz hrat.2
    have est : drStep (sA s) (sB s) (sF s) p = (rnd p.1, if (rnd p.1 / 65536 % 100).toNat ∈ tl p.2.1 then teLeave (sA s) (sB s) (sF s) p.2 (rnd p.1 / 65536 % 100).toNat else if tz p.2.1 < 40 then teEnter (sA s) (sB s) (sF s) p.2 (rnd p.1 / 65536 % 100).toNat else p.2) := rfl
    rw [est] at hTB hres
    have hF1 : Fb σ (setI σ 30 (rnd p.1)) := Fb.sI (by decide)
    have hR1 := hF1.MRel hR
    have hT1 : RelT (setI σ 30 (rnd p.1)) 1 p.2 := hT.cg (fun _ _ _ => rfl) (fun z => by omega)
    have e16 : (setI σ 30 (rnd p.1)).1 16 = sA s := by rw [setI_1n (by decide)]; exact h16
    have e17 : (setI σ 30 (rnd p.1)).1 17 = sB s := by rw [setI_1n (by decide)]; exact h17
    have e30 : (setI σ 30 (rnd p.1)).1 30 = rnd p.1 := setI_1s
    have hfee : 0 ≤ (setI σ 30 (rnd p.1)).1 18 ∧ (setI σ 30 (rnd p.1)).1 18 ≤ 9 := by rw [hR1.2.2.2.2.2.1]; exact hrat.2
    have ef := hR1.2.2.2.2.2.1
    have e7 : (setI σ 30 (rnd p.1)).2 7 1 = (tz p.2.1 : Int) := hT1.2.1
    have hh19 := hR1.h19 hI
    generalize hkk : (rnd p.1 / 65536 % 100).toNat = kk at *
    rw [show 100 * (1 : Int) + (kk : Int) = 100 + (kk : Int) by omega] at hth
    have hth : (setI σ 30 (rnd p.1)).2 5 (100 + (kk : Int)) = if kk ∈ tl p.2.1 then 1 else 0 := hth
    refine v_iload (n' := 55) h dX2_drawn_53 rfl rfl ?_
    refine v_iload_n (n' := 56) h dX2_drawn_55 rfl rfl ?_
    refine v_icmp_ge (n' := 59) (tgt := 115) h dX2_drawn_56 rfl rfl (by omega) (by omega) (fun c56 => ?_) (fun c56 => ?_)
    · exact absurd c56 (by omega)
    · refine v_aload_n (n' := 60) h dX2_drawn_59 rfl rfl ?_
      refine v_bipush (n' := 62) h dX2_drawn_60 rfl (by decide) ?_
      refine vm_callI (n' := 65) h hok hm (m_draw _ (by omega)) rfl (lw_V q1358 q1360 qs77 q87 q1361) hdX2_draw (by decide) ⟨Nat.zero_le _, Nat.zero_le _⟩ (Nat.le_of_ble_eq_true rfl) dX2_drawn_62 rfl rfl (fun z62 s62 p62 m62 => ?_)
      obtain ⟨ez62, fz62⟩ := p62
      have ez62 := ez62.symm
      have fz62 := fz62.symm
      subst ez62 fz62
      rw [h30, ekk] at *
      generalize setI σ 30 (rnd p.1) = σ1 at *
      refine v_istore5 (n' := 67) h dX2_drawn_65 rfl rfl ?_
      refine v_aload_n (n' := 68) h dX2_drawn_67 rfl rfl ?_
      refine vm_geta (n' := 71) h 5 (by decide) q942 dX2_drawn_68 rfl ?_
      refine v_bipush (n' := 73) h dX2_drawn_71 rfl (by decide) ?_
      refine v_iload (n' := 75) h dX2_drawn_73 rfl rfl ?_
      refine v_iadd (n' := 76) h dX2_drawn_75 rfl ?_
      refine vm_iald (n' := 77) h hok m62 5 200 (by decide) dX2_drawn_76 rfl (by omega) (by decide) (fun g76 => ?_)
      refine v_iconst (n' := 78) h dX2_drawn_77 rfl ?_
      refine v_icmp_ne (n' := 81) (tgt := 91) h dX2_drawn_78 rfl rfl (by omega) (by omega) (fun c78 => ?_) (fun c78 => ?_)
      · have nkT : kk ∉ tl p.2.1 := fun z => by rw [if_pos z] at hth; exact c78 hth
        refine v_aload_n (n' := 92) h dX2_drawn_91 rfl rfl ?_
        refine vm_geta (n' := 95) h 7 (by decide) q944 dX2_drawn_92 rfl ?_
        refine v_iconst (n' := 96) h dX2_drawn_95 rfl ?_
        refine vm_iald (n' := 97) h hok m62 7 2 (by decide) dX2_drawn_96 rfl (by omega) (by decide) (fun g96 => ?_)
        rw [e7] at g96 ⊢
        refine v_bipush (n' := 99) h dX2_drawn_97 rfl (by decide) ?_
        refine v_icmp_ge (n' := 102) (tgt := 109) h dX2_drawn_99 rfl rfl (by omega) (by omega) (fun c99 => ?_) (fun c99 => ?_)
        · refine v_iinc4 (n' := 112) h dX2_drawn_109 rfl rfl ?_
          refine v_goto (tgt := 53) h dX2_drawn_112 rfl ?_
          rw [if_neg nkT, if_neg (by omega)] at hTB hres
          exact ih (rnd p.1, p.2) σ1 (j + 1) _ (by omega) (by omega) m62 hR1 hT1 e30 hr e16 e17 (hTB.le (by omega)) hres
        · refine v_aload_n (n' := 103) h dX2_drawn_102 rfl rfl ?_
          refine v_iconst (n' := 104) h dX2_drawn_103 rfl ?_
          refine v_iload (n' := 106) h dX2_drawn_104 rfl rfl ?_
          refine vm_callV (n' := 109) h hok m62 (m_enterT _ 1 (Or.inr rfl) p.2 hT1 (hB.le (by omega)) kk nkT hkr (by omega) (sA s) (sB s) hh19 hfee (by rw [if_neg (by decide)]; exact e16) (by rw [if_neg (by decide)]; exact e17) hrat.1) rfl (lw_V q1148 q1150 qs45 q87 q1151) hdX2_enter (by decide) ⟨Nat.zero_le _, Nat.zero_le _⟩ (Nat.le_of_ble_eq_true rfl) dX2_drawn_106 rfl rfl (fun s106 p106 m106 => ?_)
          obtain ⟨p1, -, pF⟩ := p106
          rw [ef] at p1
          rw [if_neg nkT, if_pos (by omega)] at hTB hres
          refine v_iinc4 (n' := 112) h dX2_drawn_109 rfl rfl ?_
          refine v_goto (tgt := 53) h dX2_drawn_112 rfl ?_
          exact ih _ s106 (j + 1) _ (by omega) (by omega) m106 (pF.MRel1 hR1) p1 (by rw [pF.1 30 (by decide) (by decide)]; exact e30) hr (by rw [pF.1 16 (by decide) (by decide)]; exact e16) (by rw [pF.1 17 (by decide) (by decide)]; exact e17) (hTB.le (by omega)) hres
      · have hkT : kk ∈ tl p.2.1 := Classical.byContradiction (fun z => by rw [if_neg z] at hth; omega)
        refine v_aload_n (n' := 82) h dX2_drawn_81 rfl rfl ?_
        refine v_iconst (n' := 83) h dX2_drawn_82 rfl ?_
        refine v_iload (n' := 85) h dX2_drawn_83 rfl rfl ?_
        refine vm_callV (n' := 88) h hok m62 (m_leaveT _ 1 (Or.inr rfl) p.2 hT1 (hB.le (by omega)) kk hkT (sA s) (sB s) hh19 hfee (by rw [if_neg (by decide)]; exact e16) (by rw [if_neg (by decide)]; exact e17) hrat.1) rfl (lw_V q1255 q1257 qs65 q87 q1258) hdX2_leave (by decide) ⟨Nat.zero_le _, Nat.zero_le _⟩ (Nat.le_of_ble_eq_true rfl) dX2_drawn_85 rfl rfl (fun s85 p85 m85 => ?_)
        obtain ⟨p1, -, pF⟩ := p85
        rw [ef] at p1
        rw [if_pos hkT] at hTB hres
        refine v_goto (tgt := 109) h dX2_drawn_88 rfl ?_
        refine v_iinc4 (n' := 112) h dX2_drawn_109 rfl rfl ?_
        refine v_goto (tgt := 53) h dX2_drawn_112 rfl ?_
        exact ih _ s85 (j + 1) _ (by omega) (by omega) m85 (pF.MRel1 hR1) p1 (by rw [pF.1 30 (by decide) (by decide)]; exact e30) hr (by rw [pF.1 16 (by decide) (by decide)]; exact e16) (by rw [pF.1 17 (by decide) (by decide)]; exact e17) (hTB.le (by omega)) hres
noncomputable def oDrawn (s : SS) (times seed what : Int) : Int := if ¬ ((1 ≤ times ∧ times ≤ 60) ∧ 0 ≤ seed ∧ (0 ≤ what ∧ what ≤ 2)) then -102 else if sSh s = 0 then -103 else drawnV (drF (sA s) (sB s) (sF s) times.toNat (seed, ((sC s).1.1, (sC s).1.2.1, 0, 0, (0, 0)))) what
theorem m_drawn (σ : MS) (s : SS) (n : Int) (hR : MRel σ s) (hI : SInv s n) (times seed what : Int) (h1 : -2147483648 ≤ times ∧ times ≤ 2147483647) (h2 : -2147483648 ≤ seed ∧ seed ≤ 2147483647) (h3 : -2147483648 ≤ what ∧ what ≤ 2147483647) : MCi yX2_drawn cX2_drawn 6 (some .int) 6 [.int (iI times), .int (iI seed), .int (iI what)] σ (fun z σ' => z = oDrawn s times seed what ∧ MRel σ' s) := by
  intro ad hok hm
  refine Ct.of (by decide) (EL.c1 rfl (EL.c1 rfl (EL.c1 rfl (EL.c1 rfl (EL.nn (EL.nn EL.n0)))))) (fun Γ h hq hnm => ?_)
  refine v_iload_n (n' := 1) h dX2_drawn_0 rfl rfl ?_
  refine v_i2l (n' := 2) h dX2_drawn_1 rfl (by omega) ?_
  refine v_lconst (n' := 3) (y := 1) h dX2_drawn_2 rfl rfl ?_
  refine v_ldc2 (n' := 6) (z := 60) h dX2_drawn_3 rfl q1356 (by decide) ?_
  refine vs_callI (n' := 9) h (m_in _ _ _ (by omega) (by omega) (by omega)) (lw_S q1093 q1094 q87 q1095) hdX2_in (by decide) ⟨Nat.zero_le _, Nat.zero_le _⟩ (Nat.le_of_ble_eq_true rfl) dX2_drawn_6 rfl rfl (fun z6 p6 => ?_)
  have p6 := p6.symm
  subst p6
  refine v_bif_eq (n' := 12) (tgt := 28) h dX2_drawn_9 rfl rfl (fun c9 => ?_) (fun c9 => ?_)
  · refine v_bipush (n' := 30) h dX2_drawn_28 rfl (by decide) ?_
    refine v_iret h hq dX2_drawn_30 (Nat.le_refl _) (Nat.le_refl _) (ret_mi hm ?_)
    exact ⟨by unfold oDrawn; rw [if_pos (fun z => c9 z.1)], hR⟩
  · refine v_iload_n (n' := 13) h dX2_drawn_12 rfl rfl ?_
    refine v_if_lt (n' := 16) (tgt := 28) h dX2_drawn_13 rfl rfl (by omega) (fun c13 => ?_) (fun c13 => ?_)
    · refine v_bipush (n' := 30) h dX2_drawn_28 rfl (by decide) ?_
      refine v_iret h hq dX2_drawn_30 (Nat.le_refl _) (Nat.le_refl _) (ret_mi hm ?_)
      exact ⟨by unfold oDrawn; rw [if_pos (fun z => by have := z.2.1; omega)], hR⟩
    · refine v_iload_n (n' := 17) h dX2_drawn_16 rfl rfl ?_
      refine v_i2l (n' := 18) h dX2_drawn_17 rfl (by omega) ?_
      refine v_lconst (n' := 19) (y := 0) h dX2_drawn_18 rfl rfl ?_
      refine v_ldc2 (n' := 22) (z := 2) h dX2_drawn_19 rfl q1357 (by decide) ?_
      refine vs_callI (n' := 25) h (m_in _ _ _ (by omega) (by omega) (by omega)) (lw_S q1093 q1094 q87 q1095) hdX2_in (by decide) ⟨Nat.zero_le _, Nat.zero_le _⟩ (Nat.le_of_ble_eq_true rfl) dX2_drawn_22 rfl rfl (fun z22 p22 => ?_)
      have p22 := p22.symm
      subst p22
      refine v_bif_ne (n' := 28) (tgt := 31) h dX2_drawn_25 rfl rfl (fun c25 => ?_) (fun c25 => ?_)
      · refine v_aload_n (n' := 32) h dX2_drawn_31 rfl rfl ?_
        refine vm_callI (n' := 35) h hok hm (m_lacks _ _ _ hR hI) rfl (lw_V q1216 q1218 qs61 q87 q1219) hdX2_lacks (by decide) ⟨Nat.zero_le _, Nat.zero_le _⟩ (Nat.le_of_ble_eq_true rfl) dX2_drawn_32 rfl rfl (fun z32 s32 p32 m32 => ?_)
        obtain ⟨ez32, fz32⟩ := p32
        have ez32 := ez32.symm
        have fz32 := fz32.symm
        subst ez32 fz32
        refine v_bif_eq (n' := 38) (tgt := 41) h dX2_drawn_35 rfl rfl (fun c35 => ?_) (fun c35 => ?_)
        · refine v_aload_n (n' := 42) h dX2_drawn_41 rfl rfl ?_
          refine v_iload_n (n' := 43) h dX2_drawn_42 rfl rfl ?_
          refine vm_puti (n' := 46) h m32 30 (by decide) q967 dX2_drawn_43 rfl (by omega) (fun m43 => ?_)
          refine v_aload_n (n' := 47) h dX2_drawn_46 rfl rfl ?_
          refine vm_callV (n' := 50) h hok m43 (m_begin _) rfl (lw_V q1297 q1299 qs71 q87 q1300) hdX2_begin (by decide) ⟨Nat.zero_le _, Nat.zero_le _⟩ (Nat.le_of_ble_eq_true rfl) dX2_drawn_47 rfl rfl (fun s47 p47 m47 => ?_)
          have p47 := p47.symm
          subst p47
          refine v_iconst (n' := 51) h dX2_drawn_50 rfl ?_
          refine v_istore4 (n' := 53) h dX2_drawn_51 rfl rfl ?_
          have hF0 : Fb σ (setI σ 30 seed) := Fb.sI (by decide)
          have hF := hF0.trans (begin_Fb (σ := setI σ 30 seed))
          have hT0 : RelT (setI σ 30 seed) 0 (sC s).1 := hR.2.2.2.2.2.2.1.1.cg (fun _ _ _ => rfl) (fun _ => ⟨setI_1n (by decide), setI_1n (by decide)⟩)
          have hT1 := begin_RelT hT0 (0, 0)
          obtain ⟨e16, e17⟩ := begin_16 (σ := setI σ 30 seed)
          have e : oDrawn s times seed what = drawnV (drF (sA s) (sB s) (sF s) times.toNat (seed, ((sC s).1.1, (sC s).1.2.1, 0, 0, (0, 0)))) what := by unfold oDrawn; rw [if_neg (fun z => z ⟨c9, by omega, c25⟩), if_neg c35]
          rw [e] at hq
          refine m_drawn_loop c9 c25 hok hI c35 h hq times.toNat (seed, ((sC s).1.1, (sC s).1.2.1, 0, 0, (0, 0))) _ 0 none (by omega) (by omega) m47 (hF.MRel hR) hT1 ?_ (by dsimp only; omega) (by rw [e16, setI_1n (by decide)]; exact hR.2.2.2.1) (by rw [e17, setI_1n (by decide)]; exact hR.2.2.2.2.1) (hI.tb.b0 (by decide)) rfl
          unfold beginS
          rw [setI_1n (by decide), setI_1n (by decide)]
          show (setI σ 30 seed).1 30 = seed
          exact setI_1s
        · refine v_bipush (n' := 40) h dX2_drawn_38 rfl (by decide) ?_
          refine v_iret h hq dX2_drawn_40 (Nat.le_refl _) (Nat.le_refl _) (ret_mi m32 ?_)
          exact ⟨by unfold oDrawn; rw [if_neg (fun z => z ⟨c9, by omega, c25⟩), if_pos c35], hR⟩
      · refine v_bipush (n' := 30) h dX2_drawn_28 rfl (by decide) ?_
        refine v_iret h hq dX2_drawn_30 (Nat.le_refl _) (Nat.le_refl _) (ret_mi hm ?_)
        exact ⟨by unfold oDrawn; rw [if_pos (fun z => c25 z.2.2)], hR⟩
