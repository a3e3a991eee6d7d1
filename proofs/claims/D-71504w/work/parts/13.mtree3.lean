/-! MODEL 4: an empty tree, the second tree begun, a key put below -/
set_option maxRecDepth 100000
def clrS (σ : MS) (t : Int) (n : Int) : MS := (σ.1, fun f i => if f = 5 ∧ 100 * t ≤ i ∧ i < 100 * t + n then 0 else σ.2 f i)
theorem clrS_0 (σ : MS) (t : Int) : clrS σ t 0 = σ := by
  refine Prod.ext rfl ?_
  funext f i
  show (if _ then _ else _) = _
  rw [if_neg (by omega)]
theorem clrS_s (σ : MS) (t n : Int) (hn : 0 ≤ n) : setA (clrS σ t n) 5 (100 * t + n) 0 = clrS σ t (n + 1) := by
  refine Prod.ext rfl ?_
  funext f i
  rw [setA_2]
  show (if _ then _ else (if _ then _ else _)) = (if _ then _ else _)
  by_cases c : f = 5 ∧ i = 100 * t + n
  · rw [if_pos c, if_pos (by omega)]
  · rw [if_neg c]
    by_cases c2 : f = 5 ∧ 100 * t ≤ i ∧ i < 100 * t + n
    · rw [if_pos c2, if_pos (by omega)]
    · rw [if_neg c2, if_neg (by omega)]
def emptyS (σ : MS) (t : Int) : MS := setA (setA (setA (setA (setA (clrS σ t 100) 6 t (-1)) 7 t 0) 8 t 0) 10 t 0) 11 t 0
theorem m_empty_loop {Γ : GX} {σ : MS} {ad : Nat → Nat} {t : Int} (hok : AdOk ad) (ht : t = 0 ∨ t = 1) (h : Ok0 cX2_empty yX2_empty.cls none (rmL 1) Γ) (hq : Rt (PV ad (fun σ' => σ' = emptyS σ t)) 0 0 Γ) :
    ∀ (n : Nat) (k : Int), 0 ≤ k → k + (n : Int) = 100 → MR (clrS σ t k) → V Γ 0 0 (mH ad (clrS σ t k)) 2 [some (.ref (ad 50)), some (.int (iI t)), some (.int (iI k))] [] := by
  intro n
  induction n with
  | zero =>
    intro k h0 hk hm
    obtain rfl : k = 100 := by omega
    refine v_iload_n (n' := 3) h dX2_empty_2 rfl rfl ?_
    refine v_bipush (n' := 5) h dX2_empty_3 rfl (by decide) ?_
    refine v_icmp_ge (n' := 8) (tgt := 26) h dX2_empty_5 rfl rfl (by omega) (by omega) (fun c5 => ?_) (fun c5 => ?_)
    · refine v_aload_n (n' := 27) h dX2_empty_26 rfl rfl ?_
      refine vm_geta (n' := 30) h 6 (by decide) q943 dX2_empty_27 rfl ?_
      refine v_iload_n (n' := 31) h dX2_empty_30 rfl rfl ?_
      refine v_iconst (n' := 32) h dX2_empty_31 rfl ?_
      refine vm_iast (n' := 33) h hok hm 6 2 (by decide) dX2_empty_32 rfl (by omega) (by decide) (by omega) (fun m32 => ?_)
      refine v_aload_n (n' := 34) h dX2_empty_33 rfl rfl ?_
      refine vm_geta (n' := 37) h 7 (by decide) q944 dX2_empty_34 rfl ?_
      refine v_iload_n (n' := 38) h dX2_empty_37 rfl rfl ?_
      refine v_iconst (n' := 39) h dX2_empty_38 rfl ?_
      refine vm_iast (n' := 40) h hok m32 7 2 (by decide) dX2_empty_39 rfl (by omega) (by decide) (by omega) (fun m39 => ?_)
      refine v_aload_n (n' := 41) h dX2_empty_40 rfl rfl ?_
      refine vm_geta (n' := 44) h 8 (by decide) q945 dX2_empty_41 rfl ?_
      refine v_iload_n (n' := 45) h dX2_empty_44 rfl rfl ?_
      refine v_iconst (n' := 46) h dX2_empty_45 rfl ?_
      refine vm_iast (n' := 47) h hok m39 8 2 (by decide) dX2_empty_46 rfl (by omega) (by decide) (by omega) (fun m46 => ?_)
      refine v_aload_n (n' := 48) h dX2_empty_47 rfl rfl ?_
      refine vm_geta (n' := 51) h 10 (by decide) q947 dX2_empty_48 rfl ?_
      refine v_iload_n (n' := 52) h dX2_empty_51 rfl rfl ?_
      refine v_iconst (n' := 53) h dX2_empty_52 rfl ?_
      refine vm_iast (n' := 54) h hok m46 10 2 (by decide) dX2_empty_53 rfl (by omega) (by decide) (by omega) (fun m53 => ?_)
      refine v_aload_n (n' := 55) h dX2_empty_54 rfl rfl ?_
      refine vm_geta (n' := 58) h 11 (by decide) q948 dX2_empty_55 rfl ?_
      refine v_iload_n (n' := 59) h dX2_empty_58 rfl rfl ?_
      refine v_iconst (n' := 60) h dX2_empty_59 rfl ?_
      refine vm_iast (n' := 61) h hok m53 11 2 (by decide) dX2_empty_60 rfl (by omega) (by decide) (by omega) (fun m60 => ?_)
      refine v_vret h hq dX2_empty_61 (Nat.le_refl _) (Nat.le_refl _) (ret_mv m60 ?_)
      rfl
    · exact absurd (by decide) c5
  | succ n ih =>
    intro k h0 hk hm
    refine v_iload_n (n' := 3) h dX2_empty_2 rfl rfl ?_
    refine v_bipush (n' := 5) h dX2_empty_3 rfl (by decide) ?_
    refine v_icmp_ge (n' := 8) (tgt := 26) h dX2_empty_5 rfl rfl (by omega) (by omega) (fun c5 => ?_) (fun c5 => ?_)
    · exact absurd c5 (by omega)
    · refine v_aload_n (n' := 9) h dX2_empty_8 rfl rfl ?_
      refine vm_geta (n' := 12) h 5 (by decide) q942 dX2_empty_9 rfl ?_
      refine v_bipush (n' := 14) h dX2_empty_12 rfl (by decide) ?_
      refine v_iload_n (n' := 15) h dX2_empty_14 rfl rfl ?_
      refine v_imul (n' := 16) h dX2_empty_15 rfl ?_
      refine v_iload_n (n' := 17) h dX2_empty_16 rfl rfl ?_
      refine v_iadd (n' := 18) h dX2_empty_17 rfl ?_
      refine v_iconst (n' := 19) h dX2_empty_18 rfl ?_
      refine vm_iast (n' := 20) h hok hm 5 200 (by decide) dX2_empty_19 rfl (by omega) (by decide) (by omega) (fun m19 => ?_)
      refine v_iinc2 (n' := 23) h dX2_empty_20 rfl rfl ?_
      refine v_goto (tgt := 2) h dX2_empty_23 rfl ?_
      rw [clrS_s σ t k h0] at m19 ⊢
      exact ih _ (by omega) (by omega) m19
theorem m_empty (σ : MS) (t : Int) (ht : t = 0 ∨ t = 1) : MCv yX2_empty cX2_empty 3 none 1 [.int (iI t)] σ (fun σ' => σ' = emptyS σ t) := by
  intro ad hok hm
  refine Ct.of (by decide) (EL.c1 rfl (EL.c1 rfl (EL.nn EL.n0))) (fun Γ h hq hnm => ?_)
  have lp := m_empty_loop hok ht h hq 100 0 (by omega) (by omega)
  rw [clrS_0] at lp
  refine v_iconst (n' := 1) h dX2_empty_0 rfl ?_
  refine v_istore2 (n' := 2) h dX2_empty_1 rfl rfl ?_
  exact lp hm
/-! the second tree begun -/
def cpS (σ : MS) (n : Int) : MS := (σ.1, fun f i => if (2 ≤ f ∧ f ≤ 5) ∧ 100 ≤ i ∧ i < 100 + n then σ.2 f (i - 100) else σ.2 f i)
theorem cpS_0 (σ : MS) : cpS σ 0 = σ := by
  refine Prod.ext rfl ?_
  funext f i
  show (if _ then _ else _) = _
  rw [if_neg (by omega)]
theorem cpS_lo {σ : MS} {n i : Int} {f : Nat} (h : i < 100) : (cpS σ n).2 f i = σ.2 f i := if_neg (by omega)
theorem cpS_s (σ : MS) (n : Int) (h0 : 0 ≤ n) : setA (setA (setA (setA (cpS σ n) 2 (100 + n) (σ.2 2 n)) 3 (100 + n) (σ.2 3 n)) 4 (100 + n) (σ.2 4 n)) 5 (100 + n) (σ.2 5 n) = cpS σ (n + 1) := by
  refine Prod.ext rfl ?_
  funext f i
  simp only [setA_2]
  show (if _ then _ else (if _ then _ else (if _ then _ else (if _ then _ else (if _ then _ else _))))) = (if _ then _ else _)
  by_cases ci : i = 100 + n
  · subst ci
    have e : (100 + n - 100 : Int) = n := by omega
    rw [e]
    by_cases c5 : f = 5
    · subst c5; rw [if_pos ⟨rfl, rfl⟩, if_pos (by omega)]
    · rw [if_neg (fun z => c5 z.1)]
      by_cases c4 : f = 4
      · subst c4; rw [if_pos ⟨rfl, rfl⟩, if_pos (by omega)]
      · rw [if_neg (fun z => c4 z.1)]
        by_cases c3 : f = 3
        · subst c3; rw [if_pos ⟨rfl, rfl⟩, if_pos (by omega)]
        · rw [if_neg (fun z => c3 z.1)]
          by_cases c2 : f = 2
          · subst c2; rw [if_pos ⟨rfl, rfl⟩, if_pos (by omega)]
          · rw [if_neg (fun z => c2 z.1), if_neg (by omega), if_neg (by omega)]
  · rw [if_neg (fun z => ci z.2), if_neg (fun z => ci z.2), if_neg (fun z => ci z.2), if_neg (fun z => ci z.2)]
    by_cases c : (2 ≤ f ∧ f ≤ 5) ∧ 100 ≤ i ∧ i < 100 + n
    · rw [if_pos c, if_pos (by omega)]
    · rw [if_neg c, if_neg (by omega)]
def beginS (σ : MS) : MS := setI (setI (setA (setA (setA (setA (setA (cpS σ 100) 6 1 (σ.2 6 0)) 7 1 (σ.2 7 0)) 8 1 (σ.2 8 0)) 10 1 0) 11 1 0) 16 (σ.1 14)) 17 (σ.1 15)
theorem m_begin_loop {Γ : GX} {σ : MS} {ad : Nat → Nat} (hok : AdOk ad) (h : Ok0 cX2_begin yX2_begin.cls none (rmL 1) Γ) (hq : Rt (PV ad (fun σ' => σ' = beginS σ)) 0 0 Γ) :
    ∀ (n : Nat) (k : Int), 0 ≤ k → k + (n : Int) = 100 → MR (cpS σ k) → V Γ 0 0 (mH ad (cpS σ k)) 2 [some (.ref (ad 50)), some (.int (iI k))] [] := by
  intro n
  induction n with
  | zero =>
    intro k h0 hk hm
    obtain rfl : k = 100 := by omega
    refine v_iload_n (n' := 3) h dX2_begin_2 rfl rfl ?_
    refine v_bipush (n' := 5) h dX2_begin_3 rfl (by decide) ?_
    refine v_icmp_ge (n' := 8) (tgt := 74) h dX2_begin_5 rfl rfl (by omega) (by omega) (fun c5 => ?_) (fun c5 => ?_)
    · refine v_aload_n (n' := 75) h dX2_begin_74 rfl rfl ?_
      refine vm_geta (n' := 78) h 6 (by decide) q943 dX2_begin_75 rfl ?_
      refine v_iconst (n' := 79) h dX2_begin_78 rfl ?_
      refine v_aload_n (n' := 80) h dX2_begin_79 rfl rfl ?_
      refine vm_geta (n' := 83) h 6 (by decide) q943 dX2_begin_80 rfl ?_
      refine v_iconst (n' := 84) h dX2_begin_83 rfl ?_
      refine vm_iald (n' := 85) h hok hm 6 2 (by decide) dX2_begin_84 rfl (by omega) (by decide) (fun g84 => ?_)
      refine vm_iast (n' := 86) h hok hm 6 2 (by decide) dX2_begin_85 rfl (by omega) (by decide) (by omega) (fun m85 => ?_)
      refine v_aload_n (n' := 87) h dX2_begin_86 rfl rfl ?_
      refine vm_geta (n' := 90) h 7 (by decide) q944 dX2_begin_87 rfl ?_
      refine v_iconst (n' := 91) h dX2_begin_90 rfl ?_
      refine v_aload_n (n' := 92) h dX2_begin_91 rfl rfl ?_
      refine vm_geta (n' := 95) h 7 (by decide) q944 dX2_begin_92 rfl ?_
      refine v_iconst (n' := 96) h dX2_begin_95 rfl ?_
      refine vm_iald (n' := 97) h hok m85 7 2 (by decide) dX2_begin_96 rfl (by omega) (by decide) (fun g96 => ?_)
      refine vm_iast (n' := 98) h hok m85 7 2 (by decide) dX2_begin_97 rfl (by omega) (by decide) (by omega) (fun m97 => ?_)
      refine v_aload_n (n' := 99) h dX2_begin_98 rfl rfl ?_
      refine vm_geta (n' := 102) h 8 (by decide) q945 dX2_begin_99 rfl ?_
      refine v_iconst (n' := 103) h dX2_begin_102 rfl ?_
      refine v_aload_n (n' := 104) h dX2_begin_103 rfl rfl ?_
      refine vm_geta (n' := 107) h 8 (by decide) q945 dX2_begin_104 rfl ?_
      refine v_iconst (n' := 108) h dX2_begin_107 rfl ?_
      refine vm_iald (n' := 109) h hok m97 8 2 (by decide) dX2_begin_108 rfl (by omega) (by decide) (fun g108 => ?_)
      refine vm_iast (n' := 110) h hok m97 8 2 (by decide) dX2_begin_109 rfl (by omega) (by decide) (by omega) (fun m109 => ?_)
      refine v_aload_n (n' := 111) h dX2_begin_110 rfl rfl ?_
      refine vm_geta (n' := 114) h 10 (by decide) q947 dX2_begin_111 rfl ?_
      refine v_iconst (n' := 115) h dX2_begin_114 rfl ?_
      refine v_iconst (n' := 116) h dX2_begin_115 rfl ?_
      refine vm_iast (n' := 117) h hok m109 10 2 (by decide) dX2_begin_116 rfl (by omega) (by decide) (by omega) (fun m116 => ?_)
      refine v_aload_n (n' := 118) h dX2_begin_117 rfl rfl ?_
      refine vm_geta (n' := 121) h 11 (by decide) q948 dX2_begin_118 rfl ?_
      refine v_iconst (n' := 122) h dX2_begin_121 rfl ?_
      refine v_iconst (n' := 123) h dX2_begin_122 rfl ?_
      refine vm_iast (n' := 124) h hok m116 11 2 (by decide) dX2_begin_123 rfl (by omega) (by decide) (by omega) (fun m123 => ?_)
      refine v_aload_n (n' := 125) h dX2_begin_124 rfl rfl ?_
      refine v_aload_n (n' := 126) h dX2_begin_125 rfl rfl ?_
      refine vm_geti (n' := 129) h m123 14 (by decide) q951 dX2_begin_126 rfl (fun g126 => ?_)
      refine vm_puti (n' := 132) h m123 16 (by decide) q953 dX2_begin_129 rfl (by omega) (fun m129 => ?_)
      refine v_aload_n (n' := 133) h dX2_begin_132 rfl rfl ?_
      refine v_aload_n (n' := 134) h dX2_begin_133 rfl rfl ?_
      refine vm_geti (n' := 137) h m129 15 (by decide) q952 dX2_begin_134 rfl (fun g134 => ?_)
      refine vm_puti (n' := 140) h m129 17 (by decide) q954 dX2_begin_137 rfl (by omega) (fun m137 => ?_)
      refine v_vret h hq dX2_begin_140 (Nat.le_refl _) (Nat.le_refl _) (ret_mv m137 ?_)
      rfl
    · exact absurd (by decide) c5
  | succ n ih =>
    intro k h0 hk hm
    have e2 : (cpS σ k).2 2 k = σ.2 2 k := cpS_lo (by omega)
    have e3 : (setA (cpS σ k) 2 (100 + k) (σ.2 2 k)).2 3 k = σ.2 3 k := by rw [setA_2o (by decide)]; exact cpS_lo (by omega)
    have e4 : (setA (setA (cpS σ k) 2 (100 + k) (σ.2 2 k)) 3 (100 + k) (σ.2 3 k)).2 4 k = σ.2 4 k := by rw [setA_2o (by decide), setA_2o (by decide)]; exact cpS_lo (by omega)
    have e5 : (setA (setA (setA (cpS σ k) 2 (100 + k) (σ.2 2 k)) 3 (100 + k) (σ.2 3 k)) 4 (100 + k) (σ.2 4 k)).2 5 k = σ.2 5 k := by rw [setA_2o (by decide), setA_2o (by decide), setA_2o (by decide)]; exact cpS_lo (by omega)
    refine v_iload_n (n' := 3) h dX2_begin_2 rfl rfl ?_
    refine v_bipush (n' := 5) h dX2_begin_3 rfl (by decide) ?_
    refine v_icmp_ge (n' := 8) (tgt := 74) h dX2_begin_5 rfl rfl (by omega) (by omega) (fun c5 => ?_) (fun c5 => ?_)
    · exact absurd c5 (by omega)
    · refine v_aload_n (n' := 9) h dX2_begin_8 rfl rfl ?_
      refine vm_geta (n' := 12) h 2 (by decide) q939 dX2_begin_9 rfl ?_
      refine v_bipush (n' := 14) h dX2_begin_12 rfl (by decide) ?_
      refine v_iload_n (n' := 15) h dX2_begin_14 rfl rfl ?_
      refine v_iadd (n' := 16) h dX2_begin_15 rfl ?_
      refine v_aload_n (n' := 17) h dX2_begin_16 rfl rfl ?_
      refine vm_geta (n' := 20) h 2 (by decide) q939 dX2_begin_17 rfl ?_
      refine v_iload_n (n' := 21) h dX2_begin_20 rfl rfl ?_
      refine vm_iald (n' := 22) h hok hm 2 200 (by decide) dX2_begin_21 rfl (by omega) (by decide) (fun g21 => ?_)
      rw [e2] at g21 ⊢
      refine vm_iast (n' := 23) h hok hm 2 200 (by decide) dX2_begin_22 rfl (by omega) (by decide) (by omega) (fun m22 => ?_)
      refine v_aload_n (n' := 24) h dX2_begin_23 rfl rfl ?_
      refine vm_geta (n' := 27) h 3 (by decide) q940 dX2_begin_24 rfl ?_
      refine v_bipush (n' := 29) h dX2_begin_27 rfl (by decide) ?_
      refine v_iload_n (n' := 30) h dX2_begin_29 rfl rfl ?_
      refine v_iadd (n' := 31) h dX2_begin_30 rfl ?_
      refine v_aload_n (n' := 32) h dX2_begin_31 rfl rfl ?_
      refine vm_geta (n' := 35) h 3 (by decide) q940 dX2_begin_32 rfl ?_
      refine v_iload_n (n' := 36) h dX2_begin_35 rfl rfl ?_
      refine vm_iald (n' := 37) h hok m22 3 200 (by decide) dX2_begin_36 rfl (by omega) (by decide) (fun g36 => ?_)
      rw [e3] at g36 ⊢
      refine vm_iast (n' := 38) h hok m22 3 200 (by decide) dX2_begin_37 rfl (by omega) (by decide) (by omega) (fun m37 => ?_)
      refine v_aload_n (n' := 39) h dX2_begin_38 rfl rfl ?_
      refine vm_geta (n' := 42) h 4 (by decide) q941 dX2_begin_39 rfl ?_
      refine v_bipush (n' := 44) h dX2_begin_42 rfl (by decide) ?_
      refine v_iload_n (n' := 45) h dX2_begin_44 rfl rfl ?_
      refine v_iadd (n' := 46) h dX2_begin_45 rfl ?_
      refine v_aload_n (n' := 47) h dX2_begin_46 rfl rfl ?_
      refine vm_geta (n' := 50) h 4 (by decide) q941 dX2_begin_47 rfl ?_
      refine v_iload_n (n' := 51) h dX2_begin_50 rfl rfl ?_
      refine vm_iald (n' := 52) h hok m37 4 200 (by decide) dX2_begin_51 rfl (by omega) (by decide) (fun g51 => ?_)
      rw [e4] at g51 ⊢
      refine vm_iast (n' := 53) h hok m37 4 200 (by decide) dX2_begin_52 rfl (by omega) (by decide) (by omega) (fun m52 => ?_)
      refine v_aload_n (n' := 54) h dX2_begin_53 rfl rfl ?_
      refine vm_geta (n' := 57) h 5 (by decide) q942 dX2_begin_54 rfl ?_
      refine v_bipush (n' := 59) h dX2_begin_57 rfl (by decide) ?_
      refine v_iload_n (n' := 60) h dX2_begin_59 rfl rfl ?_
      refine v_iadd (n' := 61) h dX2_begin_60 rfl ?_
      refine v_aload_n (n' := 62) h dX2_begin_61 rfl rfl ?_
      refine vm_geta (n' := 65) h 5 (by decide) q942 dX2_begin_62 rfl ?_
      refine v_iload_n (n' := 66) h dX2_begin_65 rfl rfl ?_
      refine vm_iald (n' := 67) h hok m52 5 200 (by decide) dX2_begin_66 rfl (by omega) (by decide) (fun g66 => ?_)
      rw [e5] at g66 ⊢
      refine vm_iast (n' := 68) h hok m52 5 200 (by decide) dX2_begin_67 rfl (by omega) (by decide) (by omega) (fun m67 => ?_)
      refine v_iinc1 (n' := 71) h dX2_begin_68 rfl rfl ?_
      refine v_goto (tgt := 2) h dX2_begin_71 rfl ?_
      rw [cpS_s σ k h0] at m67 ⊢
      exact ih _ (by omega) (by omega) m67
theorem m_begin (σ : MS) : MCv yX2_begin cX2_begin 2 none 1 [] σ (fun σ' => σ' = beginS σ) := by
  intro ad hok hm
  refine Ct.of (by decide) (EL.c1 rfl (EL.nn EL.n0)) (fun Γ h hq hnm => ?_)
  have lp := m_begin_loop hok h hq 100 0 (by omega) (by omega)
  rw [cpS_0] at lp
  refine v_iconst (n' := 1) h dX2_begin_0 rfl ?_
  refine v_istore1 (n' := 2) h dX2_begin_1 rfl rfl ?_
  exact lp hm
/-! a key put below -/
def lst : Tr → Nat → Int → Int
  | .leaf _, _, on => on
  | .branch x l r, k, _ => if k < x then lst l k (x : Int) else lst r k (x : Int)
theorem lst_mem {T : Tr} {k : Nat} : ∀ {on : Int}, T ≠ .leaf () → ∃ y, y ∈ tl T ∧ lst T k on = (y : Int) := by
  induction T with
  | leaf u => intro on h; exact absurd rfl h
  | branch x l r ihl ihr =>
    intro on _
    by_cases c : k < x
    · by_cases e : l = .leaf ()
      · subst e
        exact ⟨x, mem_br.mpr (Or.inr (Or.inl rfl)), by simp [lst, c]⟩
      · obtain ⟨y, h1, h2⟩ := ihl (on := (x : Int)) e
        exact ⟨y, mem_br.mpr (Or.inl h1), by simp only [lst, if_pos c]; exact h2⟩
    · by_cases e : r = .leaf ()
      · subst e
        exact ⟨x, mem_br.mpr (Or.inr (Or.inl rfl)), by simp [lst, c]⟩
      · obtain ⟨y, h1, h2⟩ := ihr (on := (x : Int)) e
        exact ⟨y, mem_br.mpr (Or.inr (Or.inr h1)), by simp only [lst, if_neg c]; exact h2⟩
theorem rk_ne {T : Tr} (h : T ≠ .leaf ()) : 0 ≤ rk T := by
  cases T with
  | leaf u => exact absurd rfl h
  | branch x l r => simp [rk]
theorem rk_lt {T : Tr} (hb : ∀ x ∈ tl T, x < 100) : -1 ≤ rk T ∧ rk T < 100 := by
  cases T with
  | leaf u => simp [rk]
  | branch x l r =>
    have := hb x (mem_br.mpr (Or.inr (Or.inl rfl)))
    simp only [rk]
    omega
theorem ins_rk {T : Tr} {k : Nat} (h : T ≠ .leaf ()) : rk (ins T k) = rk T := by
  cases T with
  | leaf u => exact absurd rfl h
  | branch x l r => rw [ins_br]; split <;> rfl
theorem rep_ins {σ σ' : MS} {t : Int} {k : Nat} {T : Tr} : ∀ {on : Int}, RepT σ t on T → Srt T → k ∉ tl T →
    (σ'.2 2 (100 * t + (k : Int)) = -1 ∧ σ'.2 3 (100 * t + (k : Int)) = -1 ∧ σ'.2 4 (100 * t + (k : Int)) = lst T k on) →
    (∀ x ∈ tl T, σ'.2 4 (100 * t + (x : Int)) = σ.2 4 (100 * t + (x : Int)) ∧ σ'.2 2 (100 * t + (x : Int)) = (if (x : Int) = lst T k on ∧ k < x then (k : Int) else σ.2 2 (100 * t + (x : Int))) ∧ σ'.2 3 (100 * t + (x : Int)) = (if (x : Int) = lst T k on ∧ ¬ k < x then (k : Int) else σ.2 3 (100 * t + (x : Int)))) →
    RepT σ' t on (ins T k) := by
  induction T with
  | leaf u =>
    intro on _ _ _ hk _
    exact ⟨hk.2.2, hk.1, hk.2.1, trivial, trivial⟩
  | branch x l r ihl ihr =>
    intro on hR hs hn hk hx
    obtain ⟨h1, h2, h3, h4⟩ := srt_br.mp hs
    obtain ⟨r1, r2, r3, r4, r5⟩ := hR
    rw [mem_br] at hn
    have hxT : x ∈ tl (.branch x l r) := mem_br.mpr (Or.inr (Or.inl rfl))
    obtain ⟨x1, x2, x3⟩ := hx x hxT
    rw [ins_br]
    by_cases c : k < x
    · rw [if_pos c]
      have el : lst (.branch x l r) k on = lst l k (x : Int) := by simp only [lst, if_pos c]
      rw [el] at hk hx x2 x3
      by_cases e : l = .leaf ()
      · subst e
        have e2 : lst (.leaf () : Tr) k (x : Int) = (x : Int) := rfl
        rw [e2] at hk x2 x3 hx
        refine ⟨by rw [x1]; exact r1, by rw [x2, if_pos ⟨rfl, c⟩]; rfl, by rw [x3, if_neg (fun z => z.2 c)]; exact r3, ⟨hk.2.2, hk.1, hk.2.1, trivial, trivial⟩, r5.cg (fun y hy => ?_)⟩
        have hyx := h4 y hy
        obtain ⟨y1, y2, y3⟩ := hx y (mem_br.mpr (Or.inr (Or.inr hy)))
        rw [if_neg (by omega)] at y2 y3
        exact ⟨y2, y3, y1⟩
      · obtain ⟨w, w1, w2⟩ := lst_mem (k := k) (on := (x : Int)) e
        have hwx := h3 w w1
        rw [w2] at x2 x3
        rw [if_neg (by omega)] at x2 x3
        refine ⟨by rw [x1]; exact r1, by rw [x2, ins_rk e]; exact r2, by rw [x3]; exact r3, ihl r4 h1 (fun z => hn (Or.inl z)) hk (fun y hy => hx y (mem_br.mpr (Or.inl hy))), r5.cg (fun y hy => ?_)⟩
        have hyx := h4 y hy
        obtain ⟨y1, y2, y3⟩ := hx y (mem_br.mpr (Or.inr (Or.inr hy)))
        rw [w2] at y2 y3
        rw [if_neg (by omega)] at y2 y3
        exact ⟨y2, y3, y1⟩
    · rw [if_neg c]
      have el : lst (.branch x l r) k on = lst r k (x : Int) := by simp only [lst, if_neg c]
      rw [el] at hk hx x2 x3
      have hkx : x < k := by have : k ≠ x := fun z => hn (Or.inr (Or.inl z)); omega
      by_cases e : r = .leaf ()
      · subst e
        have e2 : lst (.leaf () : Tr) k (x : Int) = (x : Int) := rfl
        rw [e2] at hk x2 x3 hx
        refine ⟨by rw [x1]; exact r1, by rw [x2, if_neg (fun z => c z.2)]; exact r2, by rw [x3, if_pos ⟨rfl, c⟩]; rfl, r4.cg (fun y hy => ?_), ⟨hk.2.2, hk.1, hk.2.1, trivial, trivial⟩⟩
        have hyx := h3 y hy
        obtain ⟨y1, y2, y3⟩ := hx y (mem_br.mpr (Or.inl hy))
        rw [if_neg (by omega)] at y2 y3
        exact ⟨y2, y3, y1⟩
      · obtain ⟨w, w1, w2⟩ := lst_mem (k := k) (on := (x : Int)) e
        have hwx := h4 w w1
        rw [w2] at x2 x3
        rw [if_neg (by omega)] at x2 x3
        refine ⟨by rw [x1]; exact r1, by rw [x2]; exact r2, by rw [x3, ins_rk e]; exact r3, r4.cg (fun y hy => ?_), ihr r5 h2 (fun z => hn (Or.inr (Or.inr z))) hk (fun y hy => hx y (mem_br.mpr (Or.inr (Or.inr hy))))⟩
        have hyx := h3 y hy
        obtain ⟨y1, y2, y3⟩ := hx y (mem_br.mpr (Or.inl hy))
        rw [w2] at y2 y3
        rw [if_neg (by omega)] at y2 y3
        exact ⟨y2, y3, y1⟩
def ins4 (σ : MS) (t : Int) (k : Nat) (on : Int) : MS :=
  let σ3 := setA (setA (setA σ 2 (100 * t + (k : Int)) (-1)) 3 (100 * t + (k : Int)) (-1)) 5 (100 * t + (k : Int)) 1
  if on ≠ -1 ∧ (k : Int) < on then setA σ3 2 (100 * t + on) (k : Int) else if on ≠ -1 then setA σ3 3 (100 * t + on) (k : Int) else σ3
def insS (σ : MS) (t : Int) (k : Nat) (on : Int) : MS :=
  let σ5 := hangS (ins4 σ t k on) t (k : Int) on
  let σ6 := setA σ5 7 t (σ5.2 7 t + 1)
  setA σ6 8 t (if σ6.2 7 t > σ6.2 8 t then σ6.2 7 t else σ6.2 8 t)
theorem ins4_a {σ : MS} {t : Int} {k : Nat} {on : Int} (h : on ≠ -1 ∧ (k : Int) < on) : ins4 σ t k on = setA (setA (setA (setA σ 2 (100 * t + (k : Int)) (-1)) 3 (100 * t + (k : Int)) (-1)) 5 (100 * t + (k : Int)) 1) 2 (100 * t + on) (k : Int) := if_pos h
theorem ins4_b {σ : MS} {t : Int} {k : Nat} {on : Int} (h : on ≠ -1) (h2 : ¬ (k : Int) < on) : ins4 σ t k on = setA (setA (setA (setA σ 2 (100 * t + (k : Int)) (-1)) 3 (100 * t + (k : Int)) (-1)) 5 (100 * t + (k : Int)) 1) 3 (100 * t + on) (k : Int) := by
  unfold ins4
  rw [if_neg (fun z => h2 z.2), if_pos h]
theorem ins4_c {σ : MS} {t : Int} {k : Nat} {on : Int} (h : on = -1) : ins4 σ t k on = setA (setA (setA σ 2 (100 * t + (k : Int)) (-1)) 3 (100 * t + (k : Int)) (-1)) 5 (100 * t + (k : Int)) 1 := by
  unfold ins4
  rw [if_neg (fun z => z.1 h), if_neg (fun z => z h)]
theorem ins4_2 {σ : MS} {t : Int} {k : Nat} {on : Int} (i : Int) : (ins4 σ t k on).2 2 i = if on ≠ -1 ∧ (k : Int) < on ∧ i = 100 * t + on then (k : Int) else if i = 100 * t + (k : Int) then -1 else σ.2 2 i := by
  unfold ins4
  dsimp only
  by_cases c1 : on ≠ -1 ∧ (k : Int) < on
  · rw [if_pos c1, setA_2]
    by_cases c2 : i = 100 * t + on
    · rw [if_pos ⟨rfl, c2⟩, if_pos ⟨c1.1, c1.2, c2⟩]
    · rw [if_neg (fun z => c2 z.2), if_neg (fun z => c2 z.2.2), setA_2o (by decide), setA_2o (by decide), setA_2]
      simp
  · have c3 : ¬ (on ≠ -1 ∧ (k : Int) < on ∧ i = 100 * t + on) := fun z => c1 ⟨z.1, z.2.1⟩
    rw [if_neg c1, if_neg c3]
    split
    · rw [setA_2o (by decide), setA_2o (by decide), setA_2o (by decide), setA_2]; simp
    · rw [setA_2o (by decide), setA_2o (by decide), setA_2]; simp
theorem ins4_3 {σ : MS} {t : Int} {k : Nat} {on : Int} (i : Int) : (ins4 σ t k on).2 3 i = if on ≠ -1 ∧ ¬ (k : Int) < on ∧ i = 100 * t + on then (k : Int) else if i = 100 * t + (k : Int) then -1 else σ.2 3 i := by
  unfold ins4
  dsimp only
  by_cases c1 : on ≠ -1 ∧ (k : Int) < on
  · rw [if_pos c1, if_neg (fun z => z.2.1 c1.2), setA_2o (by decide), setA_2o (by decide), setA_2, setA_2o (by decide)]
    simp
  · rw [if_neg c1]
    by_cases c2 : on ≠ -1
    · rw [if_pos c2, setA_2]
      by_cases c3 : i = 100 * t + on
      · rw [if_pos ⟨rfl, c3⟩, if_pos ⟨c2, fun z => c1 ⟨c2, z⟩, c3⟩]
      · rw [if_neg (fun z => c3 z.2), if_neg (fun z => c3 z.2.2), setA_2o (by decide), setA_2, setA_2o (by decide)]; simp
    · rw [if_neg c2, if_neg (fun z => c2 z.1), setA_2o (by decide), setA_2, setA_2o (by decide)]; simp
theorem ins4_5 {σ : MS} {t : Int} {k : Nat} {on : Int} (i : Int) : (ins4 σ t k on).2 5 i = if i = 100 * t + (k : Int) then 1 else σ.2 5 i := by
  unfold ins4
  dsimp only
  split
  · rw [setA_2o (by decide), setA_2, setA_2o (by decide), setA_2o (by decide)]; simp
  · split
    · rw [setA_2o (by decide), setA_2, setA_2o (by decide), setA_2o (by decide)]; simp
    · rw [setA_2, setA_2o (by decide), setA_2o (by decide)]; simp
theorem ins4_o {σ : MS} {t : Int} {k : Nat} {on : Int} {f : Nat} (i : Int) (h : f ≠ 2 ∧ f ≠ 3 ∧ f ≠ 5) : (ins4 σ t k on).2 f i = σ.2 f i := by
  unfold ins4
  dsimp only
  split
  · rw [setA_2o h.1, setA_2o h.2.2, setA_2o h.2.1, setA_2o h.1]
  · split
    · rw [setA_2o h.2.1, setA_2o h.2.2, setA_2o h.2.1, setA_2o h.1]
    · rw [setA_2o h.2.2, setA_2o h.2.1, setA_2o h.1]
theorem ins4_1 {σ : MS} {t : Int} {k : Nat} {on : Int} : (ins4 σ t k on).1 = σ.1 := by
  unfold ins4
  dsimp only
  split
  · rfl
  · split <;> rfl
theorem hangS_1 {σ : MS} {t key on : Int} : (hangS σ t key on).1 = σ.1 := by
  unfold hangS
  split <;> split <;> rfl
theorem hangS_4 {σ : MS} {t key on : Int} (i : Int) : (hangS σ t key on).2 4 i = if key ≠ -1 ∧ i = 100 * t + key then on else σ.2 4 i := by
  unfold hangS
  split
  · rw [setA_2o (by decide)]
    split
    · rename_i c; rw [if_neg (fun z => z.1 c)]
    · rename_i c
      rw [setA_2]
      by_cases c2 : i = 100 * t + key
      · rw [if_pos ⟨rfl, c2⟩, if_pos ⟨c, c2⟩]
      · rw [if_neg (fun z => c2 z.2), if_neg (fun z => c2 z.2)]
  · split
    · rename_i c; rw [if_neg (fun z => z.1 c)]
    · rename_i c
      rw [setA_2]
      by_cases c2 : i = 100 * t + key
      · rw [if_pos ⟨rfl, c2⟩, if_pos ⟨c, c2⟩]
      · rw [if_neg (fun z => c2 z.2), if_neg (fun z => c2 z.2)]
theorem hangS_6 {σ : MS} {t key on : Int} (i : Int) : (hangS σ t key on).2 6 i = if on = -1 ∧ i = t then key else σ.2 6 i := by
  have e : (if key = -1 then σ else setA σ 4 (100 * t + key) on).2 6 i = σ.2 6 i := by
    split
    · rfl
    · rw [setA_2o (by decide)]
  unfold hangS
  by_cases c : on = -1
  · rw [if_pos c, setA_2, e]
    by_cases c2 : i = t
    · have c3 : on = -1 ∧ i = t := ⟨c, c2⟩
      rw [if_pos ⟨rfl, c2⟩, if_pos c3]
    · have c3 : ¬ (on = -1 ∧ i = t) := fun z => c2 z.2
      rw [if_neg (fun z => c2 z.2), if_neg c3]
  · have c3 : ¬ (on = -1 ∧ i = t) := fun z => c z.1
    rw [if_neg c, if_neg c3, e]
theorem hangS_o {σ : MS} {t key on : Int} {f : Nat} (i : Int) (h : f ≠ 4 ∧ f ≠ 6) : (hangS σ t key on).2 f i = σ.2 f i := by
  unfold hangS
  split
  · rw [setA_2o h.2]
    split
    · rfl
    · rw [setA_2o h.1]
  · split
    · rfl
    · rw [setA_2o h.1]
/-- what a tree's methods leave as it was -/
def wr (t : Int) (f : Nat) (i : Int) : Prop := (f = 24 ∨ f = 25 ∨ f = 26 ∨ f = 27) ∨ ((f = 2 ∨ f = 3 ∨ f = 4 ∨ f = 5) ∧ 100 * t ≤ i ∧ i < 100 * t + 100) ∨ ((f = 6 ∨ f = 7 ∨ f = 8 ∨ f = 10 ∨ f = 11) ∧ i = t)
def Fr (t : Int) (σ σ' : MS) : Prop := (∀ f, f ≠ 9 → ((f ≠ 19 ∧ f ≠ 20) ∨ t ≠ 0) → σ'.1 f = σ.1 f) ∧ ∀ f i, ¬ wr t f i → σ'.2 f i = σ.2 f i
theorem Fr.refl {t : Int} {σ : MS} : Fr t σ σ := ⟨fun _ _ _ => rfl, fun _ _ _ => rfl⟩
theorem Fr.trans {t : Int} {a b c : MS} (h1 : Fr t a b) (h2 : Fr t b c) : Fr t a c := ⟨fun f e1 e2 => (h2.1 f e1 e2).trans (h1.1 f e1 e2), fun f i e => (h2.2 f i e).trans (h1.2 f i e)⟩
theorem Fr.sA {t : Int} {σ : MS} {f : Nat} {i v : Int} (h : wr t f i) : Fr t σ (setA σ f i v) := ⟨fun _ _ _ => rfl, fun g j e => by
  rw [setA_2, if_neg]
  rintro ⟨rfl, rfl⟩
  exact e h⟩
theorem Fr.s9 {t : Int} {σ : MS} {v : Int} : Fr t σ (setI σ 9 v) := ⟨fun f e _ => setI_1n e, fun _ _ _ => rfl⟩
theorem Fr.hang {t : Int} {σ : MS} {key on : Int} (hk : -1 ≤ key ∧ key < 100) : Fr t σ (hangS σ t key on) := by
  refine ⟨fun f _ _ => by rw [hangS_1], fun f i e => ?_⟩
  by_cases c4 : f = 4
  · subst c4
    rw [hangS_4, if_neg]
    rintro ⟨h1, h2⟩
    exact e (by unfold wr; omega)
  · by_cases c6 : f = 6
    · subst c6
      rw [hangS_6, if_neg]
      rintro ⟨h1, h2⟩
      exact e (by unfold wr; omega)
    · exact hangS_o i ⟨c4, c6⟩
theorem Fr.ins4 {t : Int} {σ : MS} {k : Nat} {on : Int} (hk : k < 100) (ho : -1 ≤ on ∧ on < 100) : Fr t σ (ins4 σ t k on) := by
  refine ⟨fun f _ _ => by rw [ins4_1], fun f i e => ?_⟩
  by_cases c2 : f = 2
  · subst c2
    rw [ins4_2, if_neg (fun z => e (by unfold wr; omega)), if_neg (fun z => e (by unfold wr; omega))]
  · by_cases c3 : f = 3
    · subst c3
      rw [ins4_3, if_neg (fun z => e (by unfold wr; omega)), if_neg (fun z => e (by unfold wr; omega))]
    · by_cases c5 : f = 5
      · subst c5
        rw [ins4_5, if_neg (fun z => e (by unfold wr; omega))]
      · exact ins4_o i ⟨c2, c3, c5⟩
/-- the other tree stays -/
theorem Fr.LR {t u : Int} {σ σ' : MS} {T : Tr} (h : Fr t σ σ') (hu : u ≠ t) (ht : t = 0 ∨ t = 1) (hu2 : u = 0 ∨ u = 1) (hT : LR σ u T) : LR σ' u T := by
  obtain ⟨h1, h2, h3, h4, h5, h6⟩ := hT
  refine ⟨h1.cg (fun k hk => ?_), by rw [h.2 6 u (by unfold wr; omega)]; exact h2, fun k hk => by rw [h.2 5 _ (by unfold wr; omega)]; exact h3 k hk, h4, h5, h6⟩
  have := h5 k hk
  exact ⟨h.2 2 _ (by unfold wr; omega), h.2 3 _ (by unfold wr; omega), h.2 4 _ (by unfold wr; omega)⟩
theorem ins_LR {σ : MS} {t : Int} {T : Tr} {k : Nat} (hT : LR σ t T) (hk : k ∉ tl T) (hk1 : k < 100) (hz : tz T < 40) : LR (hangS (ins4 σ t k (lst T k (-1))) t (k : Int) (lst T k (-1))) t (ins T k) := by
  obtain ⟨h1, h2, h3, h4, h5, h6⟩ := hT
  have lr : T = .leaf () ∨ ∃ y, y ∈ tl T ∧ lst T k (-1) = (y : Int) := by
    by_cases e : T = .leaf ()
    · exact Or.inl e
    · exact Or.inr (lst_mem e)
  have hon : -1 ≤ lst T k (-1) ∧ lst T k (-1) < 100 ∧ ¬ lst T k (-1) = (k : Int) := by
    rcases lr with e | ⟨y, y1, y2⟩
    · subst e; simp only [lst]; omega
    · have := h5 y y1
      refine ⟨by omega, by omega, fun z => hk ?_⟩
      have : y = k := by omega
      rw [← this]; exact y1
  refine ⟨?_, ?_, ?_, ins_srt h4 hk, ?_, by rw [ins_tz]; omega⟩
  · refine rep_ins h1 h4 hk ⟨?_, ?_, ?_⟩ (fun x hx => ?_)
    · rw [hangS_o _ (by decide), ins4_2, if_neg (by omega), if_pos rfl]
    · rw [hangS_o _ (by decide), ins4_3, if_neg (by omega), if_pos rfl]
    · rw [hangS_4, if_pos (by omega)]
    · have hxk : ¬ (x : Int) = (k : Int) := by
        intro z
        obtain rfl : x = k := by omega
        exact hk hx
      have hx100 := h5 x hx
      refine ⟨?_, ?_, ?_⟩
      · rw [hangS_4, if_neg (by omega), ins4_o _ (by decide)]
      · rw [hangS_o _ (by decide), ins4_2]
        by_cases c : (x : Int) = lst T k (-1) ∧ k < x
        · rw [if_pos c, if_pos (by omega)]
        · rw [if_neg c, if_neg (by omega), if_neg (by omega)]
      · rw [hangS_o _ (by decide), ins4_3]
        by_cases c : (x : Int) = lst T k (-1) ∧ ¬ k < x
        · rw [if_pos c, if_pos (by omega)]
        · rw [if_neg c, if_neg (by omega), if_neg (by omega)]
  · rw [hangS_6]
    rcases lr with e | ⟨y, y1, y2⟩
    · subst e
      rw [if_pos ⟨rfl, rfl⟩]; rfl
    · rw [if_neg (by omega), ins4_o _ (by decide), h2]
      have hne : T ≠ .leaf () := fun z => by subst z; simp [tl] at y1
      exact (ins_rk hne).symm
  · intro x hx
    rw [hangS_o _ (by decide), ins4_5]
    by_cases c : x = k
    · subst c
      rw [if_pos rfl, if_pos (ins_mem.mpr (Or.inl rfl))]
    · rw [if_neg (by omega), h3 x hx]
      by_cases c2 : x ∈ tl T
      · rw [if_pos c2, if_pos (ins_mem.mpr (Or.inr c2))]
      · rw [if_neg c2, if_neg (fun z => by rcases ins_mem.mp z with z | z; exact c z; exact c2 z)]
  · intro x hx
    rcases ins_mem.mp hx with e | e
    · omega
    · exact h5 x e
theorem m_insert_loop {Γ : GX} {σ : MS} {ad : Nat → Nat} {t : Int} {k : Nat} (hok : AdOk ad) (hm : MR σ) (ht : t = 0 ∨ t = 1) (hk1 : k < 100) (h : Ok0 cX2_insert yX2_insert.cls none (rmL 2) Γ) :
    ∀ (S : Tr) (on0 on : Int), RepT σ t on S → (∀ x ∈ tl S, x < 100) → k ∉ tl S → (V Γ 0 0 (mH ad σ) 57 [some (.ref (ad 50)), some (.int (iI t)), some (.int (iI (k : Int))), some (.int (iI (lst S k on0))), some (.int (iI (-1)))] []) → V Γ 0 0 (mH ad σ) 10 [some (.ref (ad 50)), some (.int (iI t)), some (.int (iI (k : Int))), some (.int (iI on0)), some (.int (iI (rk S)))] [] := by
  intro S
  induction S with
  | leaf u =>
    intro on0 on hR hb hn kk
    have e : rk (.leaf u : Tr) = -1 := rfl
    rw [e]
    refine v_iload (n' := 12) h dX2_insert_10 rfl rfl ?_
    refine v_iconst (n' := 13) h dX2_insert_12 rfl ?_
    refine v_icmp_eq (n' := 16) (tgt := 57) h dX2_insert_13 rfl rfl (by omega) (by omega) (fun c13 => ?_) (fun c13 => ?_)
    · exact kk
    · exact absurd rfl c13
  | branch x l r ihl ihr =>
    intro on0 on hR hb hn kk
    obtain ⟨r1, r2, r3, r4, r5⟩ := hR
    have hx := hb x (mem_br.mpr (Or.inr (Or.inl rfl)))
    rw [mem_br] at hn
    have e : rk (.branch x l r : Tr) = (x : Int) := rfl
    rw [e]
    refine v_iload (n' := 12) h dX2_insert_10 rfl rfl ?_
    refine v_iconst (n' := 13) h dX2_insert_12 rfl ?_
    refine v_icmp_eq (n' := 16) (tgt := 57) h dX2_insert_13 rfl rfl (by omega) (by omega) (fun c13 => ?_) (fun c13 => ?_)
    · exact absurd c13 (by omega)
    · refine v_iload (n' := 18) h dX2_insert_16 rfl rfl ?_
      refine v_istore3 (n' := 19) h dX2_insert_18 rfl rfl ?_
      refine v_iload_n (n' := 20) h dX2_insert_19 rfl rfl ?_
      refine v_iload (n' := 22) h dX2_insert_20 rfl rfl ?_
      refine v_icmp_ge (n' := 25) (tgt := 40) h dX2_insert_22 rfl rfl (by omega) (by omega) (fun c22 => ?_) (fun c22 => ?_)
      · refine v_aload_n (n' := 41) h dX2_insert_40 rfl rfl ?_
        refine vm_geta (n' := 44) h 3 (by decide) q940 dX2_insert_41 rfl ?_
        refine v_bipush (n' := 46) h dX2_insert_44 rfl (by decide) ?_
        refine v_iload_n (n' := 47) h dX2_insert_46 rfl rfl ?_
        refine v_imul (n' := 48) h dX2_insert_47 rfl ?_
        refine v_iload (n' := 50) h dX2_insert_48 rfl rfl ?_
        refine v_iadd (n' := 51) h dX2_insert_50 rfl ?_
        refine vm_iald (n' := 52) h hok hm 3 200 (by decide) dX2_insert_51 rfl (by omega) (by decide) (fun g51 => ?_)
        refine v_istore4 (n' := 54) h dX2_insert_52 rfl rfl ?_
        refine v_goto (tgt := 10) h dX2_insert_54 rfl ?_
        rw [r3]
        refine ihr _ _ r5 (fun y hy => hb y (mem_br.mpr (Or.inr (Or.inr hy)))) (fun z => hn (Or.inr (Or.inr z))) ?_
        have e2 : lst (.branch x l r) k on0 = lst r k (x : Int) := by simp only [lst]; rw [if_neg (by omega)]
        rw [e2] at kk
        exact kk
      · refine v_aload_n (n' := 26) h dX2_insert_25 rfl rfl ?_
        refine vm_geta (n' := 29) h 2 (by decide) q939 dX2_insert_26 rfl ?_
        refine v_bipush (n' := 31) h dX2_insert_29 rfl (by decide) ?_
        refine v_iload_n (n' := 32) h dX2_insert_31 rfl rfl ?_
        refine v_imul (n' := 33) h dX2_insert_32 rfl ?_
        refine v_iload (n' := 35) h dX2_insert_33 rfl rfl ?_
        refine v_iadd (n' := 36) h dX2_insert_35 rfl ?_
        refine vm_iald (n' := 37) h hok hm 2 200 (by decide) dX2_insert_36 rfl (by omega) (by decide) (fun g36 => ?_)
        refine v_goto (tgt := 52) h dX2_insert_37 rfl ?_
        refine v_istore4 (n' := 54) h dX2_insert_52 rfl rfl ?_
        refine v_goto (tgt := 10) h dX2_insert_54 rfl ?_
        rw [r2]
        refine ihl _ _ r4 (fun y hy => hb y (mem_br.mpr (Or.inl hy))) (fun z => hn (Or.inl z)) ?_
        have e2 : lst (.branch x l r) k on0 = lst l k (x : Int) := by simp only [lst]; rw [if_pos (by omega)]
        rw [e2] at kk
        exact kk
def mx (a b : Int) : Int := if a > b then a else b
/-- what a put does to a tree's rows and numbers -/
def InsP (t : Int) (T : Tr) (k : Nat) (σ σ' : MS) : Prop := LR σ' t (ins T k) ∧ σ'.2 7 t = (tz T : Int) + 1 ∧ σ'.2 8 t = mx ((tz T : Int) + 1) (σ.2 8 t) ∧ σ'.2 10 t = σ.2 10 t ∧ σ'.2 11 t = σ.2 11 t ∧ σ'.1 = σ.1 ∧ Fr t σ σ'
theorem m_insert (σ : MS) (t : Int) (ht : t = 0 ∨ t = 1) (T : Tr) (hT : LR σ t T) (k : Nat) (hk : k ∉ tl T) (hk1 : k < 100) (hz : tz T < 40) (h7 : σ.2 7 t = (tz T : Int)) (h8 : 0 ≤ σ.2 8 t ∧ σ.2 8 t ≤ 40) : MCv yX2_insert cX2_insert 5 none 2 [.int (iI t), .int (iI (k : Int))] σ (fun σ' => InsP t T k σ σ') := by
  intro ad hok hm
  have hro : -1 ≤ rk T ∧ rk T < 100 := rk_lt hT.2.2.2.2.1
  have hon : -1 ≤ lst T k (-1) ∧ lst T k (-1) < 100 := by
    by_cases e : T = .leaf ()
    · subst e; simp [lst]
    · obtain ⟨y, y1, y2⟩ := lst_mem (k := k) (on := -1) e
      have := hT.2.2.2.2.1 y y1
      omega
  have hLR := ins_LR hT hk hk1 hz
  have hF4 := Fr.ins4 (t := t) (σ := σ) hk1 hon
  generalize hone : lst T k (-1) = on at hon hLR hF4
  have hFh := Fr.hang (t := t) (σ := ins4 σ t k on) (key := (k : Int)) (on := on) (by omega)
  refine Ct.of (by decide) (EL.c1 rfl (EL.c1 rfl (EL.c1 rfl (EL.nn (EL.nn EL.n0))))) (fun Γ h hq hnm => ?_)
  have fin : ∀ σ5 : MS, MR σ5 → σ5 = hangS (ins4 σ t k on) t (k : Int) on → V Γ 0 0 (mH ad σ5) 142 [some (.ref (ad 50)), some (.int (iI t)), some (.int (iI (k : Int))), some (.int (iI on)), some (.int (iI (-1)))] [] := by
    intro σ5 m5 e5
    have a7 : σ5.2 7 t = (tz T : Int) := by rw [e5, hangS_o _ (by decide), ins4_o _ (by decide), h7]
    have a8 : σ5.2 8 t = σ.2 8 t := by rw [e5, hangS_o _ (by decide), ins4_o _ (by decide)]
    have a10 : σ5.2 10 t = σ.2 10 t := by rw [e5, hangS_o _ (by decide), ins4_o _ (by decide)]
    have a11 : σ5.2 11 t = σ.2 11 t := by rw [e5, hangS_o _ (by decide), ins4_o _ (by decide)]
    have a1 : σ5.1 = σ.1 := by rw [e5, hangS_1, ins4_1]
    have aF : Fr t σ σ5 := by rw [e5]; exact hF4.trans hFh
    have aL : LR σ5 t (ins T k) := by rw [e5]; exact hLR
    have b7 : (setA σ5 7 t (σ5.2 7 t + 1)).2 7 t = σ5.2 7 t + 1 := setA_2s
    have b8 : (setA σ5 7 t (σ5.2 7 t + 1)).2 8 t = σ5.2 8 t := setA_2o (by decide)
    have w7 : wr t 7 t := by unfold wr; omega
    have w8 : wr t 8 t := by unfold wr; omega
    have post : ∀ v, v = mx ((tz T : Int) + 1) (σ.2 8 t) → InsP t T k σ (setA (setA σ5 7 t (σ5.2 7 t + 1)) 8 t v) := by
      intro v hv
      refine ⟨aL.cg (fun f i f1 f2 => by rw [setA_2o (by omega), setA_2o (by omega)]), ?_, ?_, ?_, ?_, ?_, ?_⟩
      · rw [setA_2o (by decide), b7, a7]
      · rw [setA_2s, hv]
      · rw [setA_2o (by decide), setA_2o (by decide), a10]
      · rw [setA_2o (by decide), setA_2o (by decide), a11]
      · exact a1
      · exact (aF.trans (Fr.sA w7)).trans (Fr.sA w8)
    refine v_aload_n (n' := 143) h dX2_insert_142 rfl rfl ?_
    refine vm_geta (n' := 146) h 7 (by decide) q944 dX2_insert_143 rfl ?_
    refine v_iload_n (n' := 147) h dX2_insert_146 rfl rfl ?_
    refine v_dup2 (n' := 148) h dX2_insert_147 rfl rfl rfl ?_
    refine vm_iald (n' := 149) h hok m5 7 2 (by decide) dX2_insert_148 rfl (by omega) (by decide) (fun g148 => ?_)
    refine v_iconst (n' := 150) h dX2_insert_149 rfl ?_
    refine v_iadd (n' := 151) h dX2_insert_150 rfl ?_
    refine vm_iast (n' := 152) h hok m5 7 2 (by decide) dX2_insert_151 rfl (by omega) (by decide) (by omega) (fun m151 => ?_)
    refine v_aload_n (n' := 153) h dX2_insert_152 rfl rfl ?_
    refine vm_geta (n' := 156) h 8 (by decide) q945 dX2_insert_153 rfl ?_
    refine v_iload_n (n' := 157) h dX2_insert_156 rfl rfl ?_
    refine v_aload_n (n' := 158) h dX2_insert_157 rfl rfl ?_
    refine vm_geta (n' := 161) h 7 (by decide) q944 dX2_insert_158 rfl ?_
    refine v_iload_n (n' := 162) h dX2_insert_161 rfl rfl ?_
    refine vm_iald (n' := 163) h hok m151 7 2 (by decide) dX2_insert_162 rfl (by omega) (by decide) (fun g162 => ?_)
    refine v_aload_n (n' := 164) h dX2_insert_163 rfl rfl ?_
    refine vm_geta (n' := 167) h 8 (by decide) q945 dX2_insert_164 rfl ?_
    refine v_iload_n (n' := 168) h dX2_insert_167 rfl rfl ?_
    refine vm_iald (n' := 169) h hok m151 8 2 (by decide) dX2_insert_168 rfl (by omega) (by decide) (fun g168 => ?_)
    refine v_icmp_le (n' := 172) (tgt := 181) h dX2_insert_169 rfl rfl (by omega) (by omega) (fun c169 => ?_) (fun c169 => ?_)
    · refine v_aload_n (n' := 182) h dX2_insert_181 rfl rfl ?_
      refine vm_geta (n' := 185) h 8 (by decide) q945 dX2_insert_182 rfl ?_
      refine v_iload_n (n' := 186) h dX2_insert_185 rfl rfl ?_
      refine vm_iald (n' := 187) h hok m151 8 2 (by decide) dX2_insert_186 rfl (by omega) (by decide) (fun g186 => ?_)
      refine vm_iast (n' := 188) h hok m151 8 2 (by decide) dX2_insert_187 rfl (by omega) (by decide) (by omega) (fun m187 => ?_)
      refine v_vret h hq dX2_insert_188 (Nat.le_refl _) (Nat.le_refl _) (ret_mv m187 ?_)
      exact post _ (by rw [b8, a8]; unfold mx; rw [if_neg (by omega)])
    · refine v_aload_n (n' := 173) h dX2_insert_172 rfl rfl ?_
      refine vm_geta (n' := 176) h 7 (by decide) q944 dX2_insert_173 rfl ?_
      refine v_iload_n (n' := 177) h dX2_insert_176 rfl rfl ?_
      refine vm_iald (n' := 178) h hok m151 7 2 (by decide) dX2_insert_177 rfl (by omega) (by decide) (fun g177 => ?_)
      refine v_goto (tgt := 187) h dX2_insert_178 rfl ?_
      refine vm_iast (n' := 188) h hok m151 8 2 (by decide) dX2_insert_187 rfl (by omega) (by decide) (by omega) (fun m187 => ?_)
      refine v_vret h hq dX2_insert_188 (Nat.le_refl _) (Nat.le_refl _) (ret_mv m187 ?_)
      exact post _ (by rw [b7, a7]; unfold mx; rw [if_pos (by omega)])
  have kk : V Γ 0 0 (mH ad σ) 57 [some (.ref (ad 50)), some (.int (iI t)), some (.int (iI (k : Int))), some (.int (iI on)), some (.int (iI (-1)))] [] := by
    refine v_aload_n (n' := 58) h dX2_insert_57 rfl rfl ?_
    refine vm_geta (n' := 61) h 2 (by decide) q939 dX2_insert_58 rfl ?_
    refine v_bipush (n' := 63) h dX2_insert_61 rfl (by decide) ?_
    refine v_iload_n (n' := 64) h dX2_insert_63 rfl rfl ?_
    refine v_imul (n' := 65) h dX2_insert_64 rfl ?_
    refine v_iload_n (n' := 66) h dX2_insert_65 rfl rfl ?_
    refine v_iadd (n' := 67) h dX2_insert_66 rfl ?_
    refine v_iconst (n' := 68) h dX2_insert_67 rfl ?_
    refine vm_iast (n' := 69) h hok hm 2 200 (by decide) dX2_insert_68 rfl (by omega) (by decide) (by omega) (fun m68 => ?_)
    refine v_aload_n (n' := 70) h dX2_insert_69 rfl rfl ?_
    refine vm_geta (n' := 73) h 3 (by decide) q940 dX2_insert_70 rfl ?_
    refine v_bipush (n' := 75) h dX2_insert_73 rfl (by decide) ?_
    refine v_iload_n (n' := 76) h dX2_insert_75 rfl rfl ?_
    refine v_imul (n' := 77) h dX2_insert_76 rfl ?_
    refine v_iload_n (n' := 78) h dX2_insert_77 rfl rfl ?_
    refine v_iadd (n' := 79) h dX2_insert_78 rfl ?_
    refine v_iconst (n' := 80) h dX2_insert_79 rfl ?_
    refine vm_iast (n' := 81) h hok m68 3 200 (by decide) dX2_insert_80 rfl (by omega) (by decide) (by omega) (fun m80 => ?_)
    refine v_aload_n (n' := 82) h dX2_insert_81 rfl rfl ?_
    refine vm_geta (n' := 85) h 5 (by decide) q942 dX2_insert_82 rfl ?_
    refine v_bipush (n' := 87) h dX2_insert_85 rfl (by decide) ?_
    refine v_iload_n (n' := 88) h dX2_insert_87 rfl rfl ?_
    refine v_imul (n' := 89) h dX2_insert_88 rfl ?_
    refine v_iload_n (n' := 90) h dX2_insert_89 rfl rfl ?_
    refine v_iadd (n' := 91) h dX2_insert_90 rfl ?_
    refine v_iconst (n' := 92) h dX2_insert_91 rfl ?_
    refine vm_iast (n' := 93) h hok m80 5 200 (by decide) dX2_insert_92 rfl (by omega) (by decide) (by omega) (fun m92 => ?_)
    refine v_iload_n (n' := 94) h dX2_insert_93 rfl rfl ?_
    refine v_iconst (n' := 95) h dX2_insert_94 rfl ?_
    refine v_icmp_eq (n' := 98) (tgt := 118) h dX2_insert_95 rfl rfl (by omega) (by omega) (fun c95 => ?_) (fun c95 => ?_)
    · refine v_iload_n (n' := 119) h dX2_insert_118 rfl rfl ?_
      refine v_iconst (n' := 120) h dX2_insert_119 rfl ?_
      refine v_icmp_eq (n' := 123) (tgt := 135) h dX2_insert_120 rfl rfl (by omega) (by omega) (fun c120 => ?_) (fun c120 => ?_)
      · refine v_aload_n (n' := 136) h dX2_insert_135 rfl rfl ?_
        refine v_iload_n (n' := 137) h dX2_insert_136 rfl rfl ?_
        refine v_iload_n (n' := 138) h dX2_insert_137 rfl rfl ?_
        refine v_iload_n (n' := 139) h dX2_insert_138 rfl rfl ?_
        refine vm_callV (n' := 142) h hok m92 (m_hang _ _ _ _ ht (by omega) (by omega)) rfl (lw_V q1156 q1158 qs47 q87 q1159) hdX2_hang (by decide) ⟨Nat.zero_le _, Nat.zero_le _⟩ (Nat.le_of_ble_eq_true rfl) dX2_insert_139 rfl rfl (fun s139 p139 m139 => ?_)
        have p139 := p139.symm
        subst p139
        exact fin _ m139 (by rw [ins4_c c95])
      · exact absurd c95 c120
    · refine v_iload_n (n' := 99) h dX2_insert_98 rfl rfl ?_
      refine v_iload_n (n' := 100) h dX2_insert_99 rfl rfl ?_
      refine v_icmp_ge (n' := 103) (tgt := 118) h dX2_insert_100 rfl rfl (by omega) (by omega) (fun c100 => ?_) (fun c100 => ?_)
      · refine v_iload_n (n' := 119) h dX2_insert_118 rfl rfl ?_
        refine v_iconst (n' := 120) h dX2_insert_119 rfl ?_
        refine v_icmp_eq (n' := 123) (tgt := 135) h dX2_insert_120 rfl rfl (by omega) (by omega) (fun c120 => ?_) (fun c120 => ?_)
        · exact absurd c120 c95
        · refine v_aload_n (n' := 124) h dX2_insert_123 rfl rfl ?_
          refine vm_geta (n' := 127) h 3 (by decide) q940 dX2_insert_124 rfl ?_
          refine v_bipush (n' := 129) h dX2_insert_127 rfl (by decide) ?_
          refine v_iload_n (n' := 130) h dX2_insert_129 rfl rfl ?_
          refine v_imul (n' := 131) h dX2_insert_130 rfl ?_
          refine v_iload_n (n' := 132) h dX2_insert_131 rfl rfl ?_
          refine v_iadd (n' := 133) h dX2_insert_132 rfl ?_
          refine v_iload_n (n' := 134) h dX2_insert_133 rfl rfl ?_
          refine vm_iast (n' := 135) h hok m92 3 200 (by decide) dX2_insert_134 rfl (by omega) (by decide) (by omega) (fun m134 => ?_)
          refine v_aload_n (n' := 136) h dX2_insert_135 rfl rfl ?_
          refine v_iload_n (n' := 137) h dX2_insert_136 rfl rfl ?_
          refine v_iload_n (n' := 138) h dX2_insert_137 rfl rfl ?_
          refine v_iload_n (n' := 139) h dX2_insert_138 rfl rfl ?_
          refine vm_callV (n' := 142) h hok m134 (m_hang _ _ _ _ ht (by omega) (by omega)) rfl (lw_V q1156 q1158 qs47 q87 q1159) hdX2_hang (by decide) ⟨Nat.zero_le _, Nat.zero_le _⟩ (Nat.le_of_ble_eq_true rfl) dX2_insert_139 rfl rfl (fun s139 p139 m139 => ?_)
          have p139 := p139.symm
          subst p139
          exact fin _ m139 (by rw [ins4_b c95 (by omega)])
      · refine v_aload_n (n' := 104) h dX2_insert_103 rfl rfl ?_
        refine vm_geta (n' := 107) h 2 (by decide) q939 dX2_insert_104 rfl ?_
        refine v_bipush (n' := 109) h dX2_insert_107 rfl (by decide) ?_
        refine v_iload_n (n' := 110) h dX2_insert_109 rfl rfl ?_
        refine v_imul (n' := 111) h dX2_insert_110 rfl ?_
        refine v_iload_n (n' := 112) h dX2_insert_111 rfl rfl ?_
        refine v_iadd (n' := 113) h dX2_insert_112 rfl ?_
        refine v_iload_n (n' := 114) h dX2_insert_113 rfl rfl ?_
        refine vm_iast (n' := 115) h hok m92 2 200 (by decide) dX2_insert_114 rfl (by omega) (by decide) (by omega) (fun m114 => ?_)
        refine v_goto (tgt := 135) h dX2_insert_115 rfl ?_
        refine v_aload_n (n' := 136) h dX2_insert_135 rfl rfl ?_
        refine v_iload_n (n' := 137) h dX2_insert_136 rfl rfl ?_
        refine v_iload_n (n' := 138) h dX2_insert_137 rfl rfl ?_
        refine v_iload_n (n' := 139) h dX2_insert_138 rfl rfl ?_
        refine vm_callV (n' := 142) h hok m114 (m_hang _ _ _ _ ht (by omega) (by omega)) rfl (lw_V q1156 q1158 qs47 q87 q1159) hdX2_hang (by decide) ⟨Nat.zero_le _, Nat.zero_le _⟩ (Nat.le_of_ble_eq_true rfl) dX2_insert_139 rfl rfl (fun s139 p139 m139 => ?_)
        have p139 := p139.symm
        subst p139
        exact fin _ m139 (by rw [ins4_a ⟨c95, by omega⟩])
  refine v_iconst (n' := 1) h dX2_insert_0 rfl ?_
  refine v_istore3 (n' := 2) h dX2_insert_1 rfl rfl ?_
  refine v_aload_n (n' := 3) h dX2_insert_2 rfl rfl ?_
  refine vm_geta (n' := 6) h 6 (by decide) q943 dX2_insert_3 rfl ?_
  refine v_iload_n (n' := 7) h dX2_insert_6 rfl rfl ?_
  refine vm_iald (n' := 8) h hok hm 6 2 (by decide) dX2_insert_7 rfl (by omega) (by decide) (fun g7 => ?_)
  refine v_istore4 (n' := 10) h dX2_insert_8 rfl rfl ?_
  rw [hT.2.1]
  refine m_insert_loop hok hm ht hk1 h T (-1) (-1) hT.1 hT.2.2.2.2.1 hk ?_
  rw [hone]
  exact kk
