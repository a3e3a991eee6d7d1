/-! MODEL 16: an image -/
set_option maxRecDepth 100000
def cpA (σ : MS) (f g : Nat) (n : Int) : MS := (σ.1, fun h i => if h = g ∧ 0 ≤ i ∧ i < n then σ.2 f i else σ.2 h i)
theorem cpA_0 (σ : MS) (f g : Nat) : cpA σ f g 0 = σ := by
  refine Prod.ext rfl ?_
  funext h i
  show (if _ then _ else _) = _
  rw [if_neg (by omega)]
theorem cpA_s (σ : MS) (f g : Nat) (n : Int) (hn : 0 ≤ n) (hfg : f ≠ g) : setA (cpA σ f g n) g n (σ.2 f n) = cpA σ f g (n + 1) := by
  refine Prod.ext rfl ?_
  funext h i
  rw [setA_2]
  show (if _ then _ else (if _ then _ else _)) = (if _ then _ else _)
  by_cases c : h = g ∧ i = n
  · rw [if_pos c, if_pos (by omega), c.2]
  · rw [if_neg c]
    by_cases c2 : h = g ∧ 0 ≤ i ∧ i < n
    · rw [if_pos c2, if_pos (by omega)]
    · rw [if_neg c2, if_neg (by omega)]
theorem cpA_o {σ : MS} {f g h : Nat} {n i : Int} (hh : h ≠ g) : (cpA σ f g n).2 h i = σ.2 h i := if_neg (fun z => hh z.1)
theorem cpA_g {σ : MS} {f g : Nat} {n i : Int} (hi : 0 ≤ i ∧ i < n) : (cpA σ f g n).2 g i = σ.2 f i := if_pos ⟨rfl, hi⟩
theorem cpA_MR {σ : MS} {f g : Nat} {n : Int} (h : MR σ) : MR (cpA σ f g n) := by
  refine ⟨h.1, fun k i => ?_⟩
  show _ ≤ (if _ then _ else _) ∧ (if _ then _ else _) ≤ _
  split
  · exact h.2 _ _
  · exact h.2 _ _
theorem m_copy_loop {Γ : GX} {σ : MS} {ad : Nat → Nat} {f g N : Nat} (hf : mLen f = N ∧ N ≠ 0) (hg : mLen g = N ∧ N ≠ 0) (hfg : f ≠ g) (hN : N ≤ 200) (hok : AdOk ad) (hm : MR σ) (h : Ok0 cX2_copy yX2_copy.cls none (rmL 1) Γ) (hq : Rt (PV ad (fun σ' => σ' = cpA σ f g (N : Int))) 0 0 Γ) :
    ∀ (m : Nat) (j : Int), 0 ≤ j → j + (m : Int) = (N : Int) → V Γ 0 0 (mH ad (cpA σ f g j)) 2 [some (.ref (ad f)), some (.ref (ad g)), some (.int (iI j))] [] := by
  intro m
  induction m with
  | zero =>
    intro j h0 hj
    obtain rfl : j = (N : Int) := by omega
    refine v_iload_n (n' := 3) h dX2_copy_2 rfl rfl ?_
    refine v_aload_n (n' := 4) h dX2_copy_3 rfl rfl ?_
    refine vm_alen (n' := 5) h hok f N hf dX2_copy_4 rfl ?_
    refine v_icmp_ge (n' := 8) (tgt := 20) h dX2_copy_5 rfl rfl (by omega) (by omega) (fun c5 => ?_) (fun c5 => ?_)
    · exact v_vret h hq dX2_copy_20 (Nat.le_refl _) (Nat.le_refl _) (ret_mv (cpA_MR hm) rfl)
    · exact absurd (Int.le_refl _) c5
  | succ m ih =>
    intro j h0 hj
    have ih := ih (j + 1) (by omega) (by omega)
    have ev : (cpA σ f g j).2 f j = σ.2 f j := cpA_o hfg
    rw [← cpA_s σ f g j h0 hfg] at ih
    refine v_iload_n (n' := 3) h dX2_copy_2 rfl rfl ?_
    refine v_aload_n (n' := 4) h dX2_copy_3 rfl rfl ?_
    refine vm_alen (n' := 5) h hok f N hf dX2_copy_4 rfl ?_
    refine v_icmp_ge (n' := 8) (tgt := 20) h dX2_copy_5 rfl rfl (by omega) (by omega) (fun c5 => ?_) (fun c5 => ?_)
    · exact absurd c5 (by omega)
    · refine v_aload_n (n' := 9) h dX2_copy_8 rfl rfl ?_
      refine v_iload_n (n' := 10) h dX2_copy_9 rfl rfl ?_
      refine v_aload_n (n' := 11) h dX2_copy_10 rfl rfl ?_
      refine v_iload_n (n' := 12) h dX2_copy_11 rfl rfl ?_
      refine vm_iald (n' := 13) h hok (cpA_MR hm) f N hf dX2_copy_12 rfl (by omega) hN (fun g12 => ?_)
      rw [ev] at g12 ⊢
      refine vm_iast (n' := 14) h hok (cpA_MR hm) g N hg dX2_copy_13 rfl (by omega) hN (by omega) (fun m13 => ?_)
      refine v_iinc2 (n' := 17) h dX2_copy_14 rfl rfl ?_
      refine v_goto (tgt := 2) h dX2_copy_17 rfl ?_
      exact ih
theorem m_copy (σ : MS) (f g N : Nat) (hf : mLen f = N ∧ N ≠ 0) (hg : mLen g = N ∧ N ≠ 0) (hfg : f ≠ g) (hN : N ≤ 200) (ad : Nat → Nat) (hok : AdOk ad) (hm : MR σ) : Ct yX2_copy cX2_copy 3 none (rmL 1) [.ref (ad f), .ref (ad g)] (mH ad σ) (PV ad (fun σ' => σ' = cpA σ f g (N : Int))) := by
  refine Ct.of (by decide) (EL.c1 rfl (EL.c1 rfl (EL.nn EL.n0))) (fun Γ h hq hnm => ?_)
  have lp := m_copy_loop hf hg hfg hN hok hm h hq N 0 (by omega) (by omega)
  rw [cpA_0] at lp
  refine v_iconst (n' := 1) h dX2_copy_0 rfl ?_
  refine v_istore2 (n' := 2) h dX2_copy_1 rfl rfl ?_
  exact lp
theorem vm_copy {Γ : GX} {k n : Nat} {ad : Nat → Nat} {σ : MS} {pc n' : Nat} {L : List (Option Value)} {st : List Value} {cc : ByteArray} {own : String} {ret : Option FieldType} {R : Room} {i : Nat} (h : Ok0 cc own ret R Γ) (hok : AdOk ad) (hm : MR σ) (f g N : Nat) (hfg : ((mLen f = N ∧ N ≠ 0) ∧ (mLen g = N ∧ N ≠ 0)) ∧ f ≠ g ∧ N ≤ 200) (hw : GoodIn lw_all (va_wsS own i yX2_copy (ws_ yX2_copy cX2_copy 3 none))) (hl : 1 + 1 ≤ R.frames ∧ 8 + (3 + 11) + 60 * 1 ≤ R.locals) (hf : k ≤ R.cells ∧ n ≤ R.slots) (hst : (st.map fun v => v.category).sum ≤ 8) (d : decode cc pc = .ok (.invokestatic i, 3)) (hn : pc + 3 = n')
    (kk : MR (cpA σ f g (N : Int)) → V Γ k n (mH ad (cpA σ f g (N : Int))) n' L st) : V Γ k n (mH ad σ) pc L (.ref (ad g) :: .ref (ad f) :: st) := by
  refine v_callS h (m_copy σ f g N hfg.1.1 hfg.1.2 hfg.2.1 hfg.2.2 ad hok hm) (fun _ _ e => e) hw hdX2_copy hl hf hst d hn (kV fun hp' q => ?_) rfl
  rw [mrg_self]
  obtain ⟨σ', rfl, q1, q2⟩ := q
  subst q2
  exact kk q1
/-- the first shelf's rows, read where they are alone -/
theorem ShfR.cgr {σ σ' : MS} {h : Shf} (hh : ShfR σ h) (e : ∀ f i, (2 ≤ f ∧ f ≤ 5) ∨ f = 12 ∨ f = 13 → 0 ≤ i → i < 100 → σ'.2 f i = σ.2 f i) (e0 : ∀ f, f = 6 ∨ f = 7 ∨ f = 8 ∨ f = 10 ∨ f = 11 → σ'.2 f 0 = σ.2 f 0) (el : ∀ i, 0 ≤ i → i < 60 → σ'.2 21 i = σ.2 21 i) (es : ∀ i, 0 ≤ i → i < 18 → σ'.2 29 i = σ.2 29 i) (e1 : ∀ f, f = 19 ∨ f = 20 ∨ f = 22 ∨ f = 28 → σ'.1 f = σ.1 f) : ShfR σ' h := by
  obtain ⟨⟨⟨v1, v2, v3, v4, v5, v6⟩, u7, u8, u10, u11, um⟩, k2, ⟨l1, l2, l3⟩, s1, s2, s3⟩ := hh
  refine ⟨⟨⟨v1.cg (fun k hk => ?_), by rw [e0 6 (by omega)]; exact v2, fun k hk => by rw [e 5 _ (by omega) (by omega) (by omega)]; exact v3 k hk, v4, v5, v6⟩, by rw [e0 7 (by omega)]; exact u7, by rw [e0 8 (by omega)]; exact u8, by rw [e0 10 (by omega)]; exact u10, by rw [e0 11 (by omega)]; exact u11, fun t0 => by rw [e1 19 (by omega), e1 20 (by omega)]; exact um t0⟩, fun k hk => ?_, ⟨by rw [e1 22 (by omega)]; exact l1, l2, fun i hi => by rw [el _ (by omega) (by omega)]; exact l3 i hi⟩, by rw [e1 28 (by omega)]; exact s1, s2, fun i hi => by rw [es _ (by omega) (by omega), es _ (by omega) (by omega), es _ (by omega) (by omega)]; exact s3 i hi⟩
  · have := v5 k hk
    exact ⟨e 2 _ (by omega) (by omega) (by omega), e 3 _ (by omega) (by omega) (by omega), e 4 _ (by omega) (by omega) (by omega)⟩
  · have := v5 k hk
    rw [e 12 _ (by omega) (by omega) (by omega), e 13 _ (by omega) (by omega) (by omega)]
    exact k2 k hk
theorem ksh_2 {σ : MS} {i : Int} : (ksh σ).2 2 i = σ.2 41 i := rfl
theorem ksh_3 {σ : MS} {i : Int} : (ksh σ).2 3 i = σ.2 42 i := rfl
theorem ksh_4 {σ : MS} {i : Int} : (ksh σ).2 4 i = σ.2 43 i := rfl
theorem ksh_5 {σ : MS} {i : Int} : (ksh σ).2 5 i = σ.2 44 i := rfl
theorem ksh_12 {σ : MS} {i : Int} : (ksh σ).2 12 i = σ.2 45 i := rfl
theorem ksh_13 {σ : MS} {i : Int} : (ksh σ).2 13 i = σ.2 46 i := rfl
theorem ksh_21 {σ : MS} {i : Int} : (ksh σ).2 21 i = σ.2 47 i := rfl
theorem ksh_29 {σ : MS} {i : Int} : (ksh σ).2 29 i = σ.2 48 i := rfl
theorem ksh_6 {σ : MS} {i : Int} : (ksh σ).2 6 i = σ.1 32 := rfl
theorem ksh_7 {σ : MS} {i : Int} : (ksh σ).2 7 i = σ.1 33 := rfl
theorem ksh_8 {σ : MS} {i : Int} : (ksh σ).2 8 i = σ.1 34 := rfl
theorem ksh_10 {σ : MS} {i : Int} : (ksh σ).2 10 i = σ.1 35 := rfl
theorem ksh_11 {σ : MS} {i : Int} : (ksh σ).2 11 i = σ.1 36 := rfl
theorem ksh_19 {σ : MS} : (ksh σ).1 19 = σ.1 37 := rfl
theorem ksh_20 {σ : MS} : (ksh σ).1 20 = σ.1 38 := rfl
theorem ksh_22 {σ : MS} : (ksh σ).1 22 = σ.1 39 := rfl
theorem ksh_28 {σ : MS} : (ksh σ).1 28 = σ.1 40 := rfl
def setK (s : SS) (kn : Int) (h : Shf) : SS := (s.1, s.2.1, s.2.2.1, s.2.2.2.1, s.2.2.2.2.1, s.2.2.2.2.2.1, s.2.2.2.2.2.2.1, kn, h)
def oImage (s : SS) : Int × SS := if sSh s = 0 then (-103, s) else ((tz (sC s).1.1 : Int), setK s (sSh s) (sC s))
theorem m_image (σ : MS) (s : SS) (n : Int) (hR : MRel σ s) (hI : SInv s n) : MCi yX2_image cX2_image 1 (some .int) 2 [] σ (fun z σ' => z = (oImage s).1 ∧ MRel σ' (oImage s).2) := by
  intro ad hok hm
  refine Ct.of (by decide) (EL.c1 rfl EL.n0) (fun Γ h hq hnm => ?_)
  refine v_aload_n (n' := 1) h dX2_image_0 rfl rfl ?_
  refine vm_callI (n' := 4) h hok hm (m_lacks _ _ _ hR hI) rfl (lw_V q1216 q1218 qs61 q87 q1219) hdX2_lacks (by decide) ⟨Nat.zero_le _, Nat.zero_le _⟩ (Nat.le_of_ble_eq_true rfl) dX2_image_1 rfl rfl (fun z1 s1 p1 m1 => ?_)
  obtain ⟨ez1, fz1⟩ := p1
  have ez1 := ez1.symm
  have fz1 := fz1.symm
  subst ez1 fz1
  refine v_bif_eq (n' := 7) (tgt := 10) h dX2_image_4 rfl rfl (fun c4 => ?_) (fun c4 => ?_)
  · refine v_aload_n (n' := 11) h dX2_image_10 rfl rfl ?_
    refine vm_geta (n' := 14) h 2 (by decide) q939 dX2_image_11 rfl ?_
    refine v_aload_n (n' := 15) h dX2_image_14 rfl rfl ?_
    refine vm_geta (n' := 18) h 41 (by decide) q978 dX2_image_15 rfl ?_
    refine vm_copy (n' := 21) h hok m1 2 41 200 (by decide) (lw_S q1370 q1371 q87 q1372) (by decide) ⟨Nat.zero_le _, Nat.zero_le _⟩ (Nat.le_of_ble_eq_true rfl) dX2_image_18 rfl (fun m18 => ?_)
    refine v_aload_n (n' := 22) h dX2_image_21 rfl rfl ?_
    refine vm_geta (n' := 25) h 3 (by decide) q940 dX2_image_22 rfl ?_
    refine v_aload_n (n' := 26) h dX2_image_25 rfl rfl ?_
    refine vm_geta (n' := 29) h 42 (by decide) q979 dX2_image_26 rfl ?_
    refine vm_copy (n' := 32) h hok m18 3 42 200 (by decide) (lw_S q1370 q1371 q87 q1372) (by decide) ⟨Nat.zero_le _, Nat.zero_le _⟩ (Nat.le_of_ble_eq_true rfl) dX2_image_29 rfl (fun m29 => ?_)
    refine v_aload_n (n' := 33) h dX2_image_32 rfl rfl ?_
    refine vm_geta (n' := 36) h 4 (by decide) q941 dX2_image_33 rfl ?_
    refine v_aload_n (n' := 37) h dX2_image_36 rfl rfl ?_
    refine vm_geta (n' := 40) h 43 (by decide) q980 dX2_image_37 rfl ?_
    refine vm_copy (n' := 43) h hok m29 4 43 200 (by decide) (lw_S q1370 q1371 q87 q1372) (by decide) ⟨Nat.zero_le _, Nat.zero_le _⟩ (Nat.le_of_ble_eq_true rfl) dX2_image_40 rfl (fun m40 => ?_)
    refine v_aload_n (n' := 44) h dX2_image_43 rfl rfl ?_
    refine vm_geta (n' := 47) h 5 (by decide) q942 dX2_image_44 rfl ?_
    refine v_aload_n (n' := 48) h dX2_image_47 rfl rfl ?_
    refine vm_geta (n' := 51) h 44 (by decide) q981 dX2_image_48 rfl ?_
    refine vm_copy (n' := 54) h hok m40 5 44 200 (by decide) (lw_S q1370 q1371 q87 q1372) (by decide) ⟨Nat.zero_le _, Nat.zero_le _⟩ (Nat.le_of_ble_eq_true rfl) dX2_image_51 rfl (fun m51 => ?_)
    refine v_aload_n (n' := 55) h dX2_image_54 rfl rfl ?_
    refine vm_geta (n' := 58) h 12 (by decide) q949 dX2_image_55 rfl ?_
    refine v_aload_n (n' := 59) h dX2_image_58 rfl rfl ?_
    refine vm_geta (n' := 62) h 45 (by decide) q982 dX2_image_59 rfl ?_
    refine vm_copy (n' := 65) h hok m51 12 45 100 (by decide) (lw_S q1370 q1371 q87 q1372) (by decide) ⟨Nat.zero_le _, Nat.zero_le _⟩ (Nat.le_of_ble_eq_true rfl) dX2_image_62 rfl (fun m62 => ?_)
    refine v_aload_n (n' := 66) h dX2_image_65 rfl rfl ?_
    refine vm_geta (n' := 69) h 13 (by decide) q950 dX2_image_66 rfl ?_
    refine v_aload_n (n' := 70) h dX2_image_69 rfl rfl ?_
    refine vm_geta (n' := 73) h 46 (by decide) q983 dX2_image_70 rfl ?_
    refine vm_copy (n' := 76) h hok m62 13 46 100 (by decide) (lw_S q1370 q1371 q87 q1372) (by decide) ⟨Nat.zero_le _, Nat.zero_le _⟩ (Nat.le_of_ble_eq_true rfl) dX2_image_73 rfl (fun m73 => ?_)
    refine v_aload_n (n' := 77) h dX2_image_76 rfl rfl ?_
    refine vm_geta (n' := 80) h 21 (by decide) q958 dX2_image_77 rfl ?_
    refine v_aload_n (n' := 81) h dX2_image_80 rfl rfl ?_
    refine vm_geta (n' := 84) h 47 (by decide) q984 dX2_image_81 rfl ?_
    refine vm_copy (n' := 87) h hok m73 21 47 60 (by decide) (lw_S q1370 q1371 q87 q1372) (by decide) ⟨Nat.zero_le _, Nat.zero_le _⟩ (Nat.le_of_ble_eq_true rfl) dX2_image_84 rfl (fun m84 => ?_)
    refine v_aload_n (n' := 88) h dX2_image_87 rfl rfl ?_
    refine vm_geta (n' := 91) h 29 (by decide) q966 dX2_image_88 rfl ?_
    refine v_aload_n (n' := 92) h dX2_image_91 rfl rfl ?_
    refine vm_geta (n' := 95) h 48 (by decide) q985 dX2_image_92 rfl ?_
    refine vm_copy (n' := 98) h hok m84 29 48 18 (by decide) (lw_S q1370 q1371 q87 q1372) (by decide) ⟨Nat.zero_le _, Nat.zero_le _⟩ (Nat.le_of_ble_eq_true rfl) dX2_image_95 rfl (fun m95 => ?_)
    refine v_aload_n (n' := 99) h dX2_image_98 rfl rfl ?_
    refine v_aload_n (n' := 100) h dX2_image_99 rfl rfl ?_
    refine vm_geta (n' := 103) h 6 (by decide) q943 dX2_image_100 rfl ?_
    refine v_iconst (n' := 104) h dX2_image_103 rfl ?_
    refine vm_iald (n' := 105) h hok m95 6 2 (by decide) dX2_image_104 rfl (by omega) (by decide) (fun g104 => ?_)
    refine vm_puti (n' := 108) h m95 32 (by decide) q969 dX2_image_105 rfl (by omega) (fun m105 => ?_)
    refine v_aload_n (n' := 109) h dX2_image_108 rfl rfl ?_
    refine v_aload_n (n' := 110) h dX2_image_109 rfl rfl ?_
    refine vm_geta (n' := 113) h 7 (by decide) q944 dX2_image_110 rfl ?_
    refine v_iconst (n' := 114) h dX2_image_113 rfl ?_
    refine vm_iald (n' := 115) h hok m105 7 2 (by decide) dX2_image_114 rfl (by omega) (by decide) (fun g114 => ?_)
    refine vm_puti (n' := 118) h m105 33 (by decide) q970 dX2_image_115 rfl (by omega) (fun m115 => ?_)
    refine v_aload_n (n' := 119) h dX2_image_118 rfl rfl ?_
    refine v_aload_n (n' := 120) h dX2_image_119 rfl rfl ?_
    refine vm_geta (n' := 123) h 8 (by decide) q945 dX2_image_120 rfl ?_
    refine v_iconst (n' := 124) h dX2_image_123 rfl ?_
    refine vm_iald (n' := 125) h hok m115 8 2 (by decide) dX2_image_124 rfl (by omega) (by decide) (fun g124 => ?_)
    refine vm_puti (n' := 128) h m115 34 (by decide) q971 dX2_image_125 rfl (by omega) (fun m125 => ?_)
    refine v_aload_n (n' := 129) h dX2_image_128 rfl rfl ?_
    refine v_aload_n (n' := 130) h dX2_image_129 rfl rfl ?_
    refine vm_geta (n' := 133) h 10 (by decide) q947 dX2_image_130 rfl ?_
    refine v_iconst (n' := 134) h dX2_image_133 rfl ?_
    refine vm_iald (n' := 135) h hok m125 10 2 (by decide) dX2_image_134 rfl (by omega) (by decide) (fun g134 => ?_)
    refine vm_puti (n' := 138) h m125 35 (by decide) q972 dX2_image_135 rfl (by omega) (fun m135 => ?_)
    refine v_aload_n (n' := 139) h dX2_image_138 rfl rfl ?_
    refine v_aload_n (n' := 140) h dX2_image_139 rfl rfl ?_
    refine vm_geta (n' := 143) h 11 (by decide) q948 dX2_image_140 rfl ?_
    refine v_iconst (n' := 144) h dX2_image_143 rfl ?_
    refine vm_iald (n' := 145) h hok m135 11 2 (by decide) dX2_image_144 rfl (by omega) (by decide) (fun g144 => ?_)
    refine vm_puti (n' := 148) h m135 36 (by decide) q973 dX2_image_145 rfl (by omega) (fun m145 => ?_)
    refine v_aload_n (n' := 149) h dX2_image_148 rfl rfl ?_
    refine v_aload_n (n' := 150) h dX2_image_149 rfl rfl ?_
    refine vm_geti (n' := 153) h m145 19 (by decide) q956 dX2_image_150 rfl (fun g150 => ?_)
    refine vm_puti (n' := 156) h m145 37 (by decide) q974 dX2_image_153 rfl (by omega) (fun m153 => ?_)
    refine v_aload_n (n' := 157) h dX2_image_156 rfl rfl ?_
    refine v_aload_n (n' := 158) h dX2_image_157 rfl rfl ?_
    refine vm_geti (n' := 161) h m153 20 (by decide) q957 dX2_image_158 rfl (fun g158 => ?_)
    refine vm_puti (n' := 164) h m153 38 (by decide) q975 dX2_image_161 rfl (by omega) (fun m161 => ?_)
    refine v_aload_n (n' := 165) h dX2_image_164 rfl rfl ?_
    refine v_aload_n (n' := 166) h dX2_image_165 rfl rfl ?_
    refine vm_geti (n' := 169) h m161 22 (by decide) q959 dX2_image_166 rfl (fun g166 => ?_)
    refine vm_puti (n' := 172) h m161 39 (by decide) q976 dX2_image_169 rfl (by omega) (fun m169 => ?_)
    refine v_aload_n (n' := 173) h dX2_image_172 rfl rfl ?_
    refine v_aload_n (n' := 174) h dX2_image_173 rfl rfl ?_
    refine vm_geti (n' := 177) h m169 28 (by decide) q965 dX2_image_174 rfl (fun g174 => ?_)
    refine vm_puti (n' := 180) h m169 40 (by decide) q977 dX2_image_177 rfl (by omega) (fun m177 => ?_)
    refine v_aload_n (n' := 181) h dX2_image_180 rfl rfl ?_
    refine v_aload_n (n' := 182) h dX2_image_181 rfl rfl ?_
    refine vm_geti (n' := 185) h m177 23 (by decide) q960 dX2_image_182 rfl (fun g182 => ?_)
    refine vm_puti (n' := 188) h m177 31 (by decide) q968 dX2_image_185 rfl (by omega) (fun m185 => ?_)
    refine v_aload_n (n' := 189) h dX2_image_188 rfl rfl ?_
    refine vm_geta (n' := 192) h 7 (by decide) q944 dX2_image_189 rfl ?_
    refine v_iconst (n' := 193) h dX2_image_192 rfl ?_
    refine vm_iald (n' := 194) h hok m185 7 2 (by decide) dX2_image_193 rfl (by omega) (by decide) (fun g193 => ?_)
    refine v_iret h hq dX2_image_194 (Nat.le_refl _) (Nat.le_refl _) (ret_mi m185 ?_)
    unfold oImage
    rw [if_neg c4]
    obtain ⟨r0, r1, r2, r3, r4, r5, r6, r7, r8⟩ := hR
    refine ⟨r6.1.2.1, r0, r1, r2, r3, r4, r5, r6.cg (fun f i hf => ?_) (fun f hf => ?_), ?_, fun _ => r6.cgr (fun f i hf i0 i1 => ?_) (fun f hf => ?_) (fun i i0 i1 => ?_) (fun i i0 i1 => ?_) (fun f hf => ?_)⟩
    · simp only [setI_2]
      rw [cpA_o (by omega), cpA_o (by omega), cpA_o (by omega), cpA_o (by omega), cpA_o (by omega), cpA_o (by omega), cpA_o (by omega), cpA_o (by omega)]
    · simp only [setI_1]
      rcases hf with rfl | rfl | rfl | rfl <;> rfl
    · simp only [setI_1]
      exact r2
    · have hf : f = 2 ∨ f = 3 ∨ f = 4 ∨ f = 5 ∨ f = 12 ∨ f = 13 := by omega
      rcases hf with rfl | rfl | rfl | rfl | rfl | rfl
      · rw [ksh_2]; simp only [setI_2]; (repeat rw [cpA_o (by decide)]); rw [cpA_g (by omega)]; (repeat rw [cpA_o (by decide)])
      · rw [ksh_3]; simp only [setI_2]; (repeat rw [cpA_o (by decide)]); rw [cpA_g (by omega)]; (repeat rw [cpA_o (by decide)])
      · rw [ksh_4]; simp only [setI_2]; (repeat rw [cpA_o (by decide)]); rw [cpA_g (by omega)]; (repeat rw [cpA_o (by decide)])
      · rw [ksh_5]; simp only [setI_2]; (repeat rw [cpA_o (by decide)]); rw [cpA_g (by omega)]; (repeat rw [cpA_o (by decide)])
      · rw [ksh_12]; simp only [setI_2]; (repeat rw [cpA_o (by decide)]); rw [cpA_g (by omega)]; (repeat rw [cpA_o (by decide)])
      · rw [ksh_13]; simp only [setI_2]; (repeat rw [cpA_o (by decide)]); rw [cpA_g (by omega)]; (repeat rw [cpA_o (by decide)])
    · rcases hf with rfl | rfl | rfl | rfl | rfl
      · rw [ksh_6]; simp only [setI_1, setI_2]; simp; (repeat rw [cpA_o (by decide)])
      · rw [ksh_7]; simp only [setI_1, setI_2]; simp; (repeat rw [cpA_o (by decide)])
      · rw [ksh_8]; simp only [setI_1, setI_2]; simp; (repeat rw [cpA_o (by decide)])
      · rw [ksh_10]; simp only [setI_1, setI_2]; simp; (repeat rw [cpA_o (by decide)])
      · rw [ksh_11]; simp only [setI_1, setI_2]; simp; (repeat rw [cpA_o (by decide)])
    · rw [ksh_21]; simp only [setI_2]; (repeat rw [cpA_o (by decide)]); rw [cpA_g (by omega)]; (repeat rw [cpA_o (by decide)])
    · rw [ksh_29]; simp only [setI_2]; (repeat rw [cpA_o (by decide)]); rw [cpA_g (by omega)]; (repeat rw [cpA_o (by decide)])
    · rcases hf with rfl | rfl | rfl | rfl
      · rw [ksh_19]; simp only [setI_1]; simp; (try rfl)
      · rw [ksh_20]; simp only [setI_1]; simp; (try rfl)
      · rw [ksh_22]; simp only [setI_1]; simp; (try rfl)
      · rw [ksh_28]; simp only [setI_1]; simp; (try rfl)
  · refine v_bipush (n' := 9) h dX2_image_7 rfl (by decide) ?_
    refine v_iret h hq dX2_image_9 (Nat.le_refl _) (Nat.le_refl _) (ret_mi m1 ?_)
    unfold oImage; rw [if_pos c4]; exact ⟨rfl, hR⟩
noncomputable def oRestore (s : SS) : Int × SS := if ¬ (sKn s = sSh s) then (-103, s) else ((tz (sK s).1.1 : Int), setC s (sK s))
theorem m_restore (σ : MS) (s : SS) (n : Int) (hR : MRel σ s) (hI : SInv s n) : MCi yX2_restore cX2_restore 1 (some .int) 2 [] σ (fun z σ' => z = (oRestore s).1 ∧ MRel σ' (oRestore s).2) := by
  intro ad hok hm
  have e31 := hR.2.2.2.2.2.2.2.1
  have e23 := hR.2.2.1
  refine Ct.of (by decide) (EL.c1 rfl EL.n0) (fun Γ h hq hnm => ?_)
  refine v_aload_n (n' := 1) h dX2_restore_0 rfl rfl ?_
  refine vm_geti (n' := 4) h hm 31 (by decide) q968 dX2_restore_1 rfl (fun g1 => ?_)
  refine v_aload_n (n' := 5) h dX2_restore_4 rfl rfl ?_
  refine vm_geti (n' := 8) h hm 23 (by decide) q960 dX2_restore_5 rfl (fun g5 => ?_)
  refine v_icmp_eq (n' := 11) (tgt := 14) h dX2_restore_8 rfl rfl (by omega) (by omega) (fun c8 => ?_) (fun c8 => ?_)
  · refine v_aload_n (n' := 15) h dX2_restore_14 rfl rfl ?_
    refine vm_geta (n' := 18) h 41 (by decide) q978 dX2_restore_15 rfl ?_
    refine v_aload_n (n' := 19) h dX2_restore_18 rfl rfl ?_
    refine vm_geta (n' := 22) h 2 (by decide) q939 dX2_restore_19 rfl ?_
    refine vm_copy (n' := 25) h hok hm 41 2 200 (by decide) (lw_S q1370 q1371 q87 q1372) (by decide) ⟨Nat.zero_le _, Nat.zero_le _⟩ (Nat.le_of_ble_eq_true rfl) dX2_restore_22 rfl (fun m22 => ?_)
    refine v_aload_n (n' := 26) h dX2_restore_25 rfl rfl ?_
    refine vm_geta (n' := 29) h 42 (by decide) q979 dX2_restore_26 rfl ?_
    refine v_aload_n (n' := 30) h dX2_restore_29 rfl rfl ?_
    refine vm_geta (n' := 33) h 3 (by decide) q940 dX2_restore_30 rfl ?_
    refine vm_copy (n' := 36) h hok m22 42 3 200 (by decide) (lw_S q1370 q1371 q87 q1372) (by decide) ⟨Nat.zero_le _, Nat.zero_le _⟩ (Nat.le_of_ble_eq_true rfl) dX2_restore_33 rfl (fun m33 => ?_)
    refine v_aload_n (n' := 37) h dX2_restore_36 rfl rfl ?_
    refine vm_geta (n' := 40) h 43 (by decide) q980 dX2_restore_37 rfl ?_
    refine v_aload_n (n' := 41) h dX2_restore_40 rfl rfl ?_
    refine vm_geta (n' := 44) h 4 (by decide) q941 dX2_restore_41 rfl ?_
    refine vm_copy (n' := 47) h hok m33 43 4 200 (by decide) (lw_S q1370 q1371 q87 q1372) (by decide) ⟨Nat.zero_le _, Nat.zero_le _⟩ (Nat.le_of_ble_eq_true rfl) dX2_restore_44 rfl (fun m44 => ?_)
    refine v_aload_n (n' := 48) h dX2_restore_47 rfl rfl ?_
    refine vm_geta (n' := 51) h 44 (by decide) q981 dX2_restore_48 rfl ?_
    refine v_aload_n (n' := 52) h dX2_restore_51 rfl rfl ?_
    refine vm_geta (n' := 55) h 5 (by decide) q942 dX2_restore_52 rfl ?_
    refine vm_copy (n' := 58) h hok m44 44 5 200 (by decide) (lw_S q1370 q1371 q87 q1372) (by decide) ⟨Nat.zero_le _, Nat.zero_le _⟩ (Nat.le_of_ble_eq_true rfl) dX2_restore_55 rfl (fun m55 => ?_)
    refine v_aload_n (n' := 59) h dX2_restore_58 rfl rfl ?_
    refine vm_geta (n' := 62) h 45 (by decide) q982 dX2_restore_59 rfl ?_
    refine v_aload_n (n' := 63) h dX2_restore_62 rfl rfl ?_
    refine vm_geta (n' := 66) h 12 (by decide) q949 dX2_restore_63 rfl ?_
    refine vm_copy (n' := 69) h hok m55 45 12 100 (by decide) (lw_S q1370 q1371 q87 q1372) (by decide) ⟨Nat.zero_le _, Nat.zero_le _⟩ (Nat.le_of_ble_eq_true rfl) dX2_restore_66 rfl (fun m66 => ?_)
    refine v_aload_n (n' := 70) h dX2_restore_69 rfl rfl ?_
    refine vm_geta (n' := 73) h 46 (by decide) q983 dX2_restore_70 rfl ?_
    refine v_aload_n (n' := 74) h dX2_restore_73 rfl rfl ?_
    refine vm_geta (n' := 77) h 13 (by decide) q950 dX2_restore_74 rfl ?_
    refine vm_copy (n' := 80) h hok m66 46 13 100 (by decide) (lw_S q1370 q1371 q87 q1372) (by decide) ⟨Nat.zero_le _, Nat.zero_le _⟩ (Nat.le_of_ble_eq_true rfl) dX2_restore_77 rfl (fun m77 => ?_)
    refine v_aload_n (n' := 81) h dX2_restore_80 rfl rfl ?_
    refine vm_geta (n' := 84) h 47 (by decide) q984 dX2_restore_81 rfl ?_
    refine v_aload_n (n' := 85) h dX2_restore_84 rfl rfl ?_
    refine vm_geta (n' := 88) h 21 (by decide) q958 dX2_restore_85 rfl ?_
    refine vm_copy (n' := 91) h hok m77 47 21 60 (by decide) (lw_S q1370 q1371 q87 q1372) (by decide) ⟨Nat.zero_le _, Nat.zero_le _⟩ (Nat.le_of_ble_eq_true rfl) dX2_restore_88 rfl (fun m88 => ?_)
    refine v_aload_n (n' := 92) h dX2_restore_91 rfl rfl ?_
    refine vm_geta (n' := 95) h 48 (by decide) q985 dX2_restore_92 rfl ?_
    refine v_aload_n (n' := 96) h dX2_restore_95 rfl rfl ?_
    refine vm_geta (n' := 99) h 29 (by decide) q966 dX2_restore_96 rfl ?_
    refine vm_copy (n' := 102) h hok m88 48 29 18 (by decide) (lw_S q1370 q1371 q87 q1372) (by decide) ⟨Nat.zero_le _, Nat.zero_le _⟩ (Nat.le_of_ble_eq_true rfl) dX2_restore_99 rfl (fun m99 => ?_)
    refine v_aload_n (n' := 103) h dX2_restore_102 rfl rfl ?_
    refine vm_geta (n' := 106) h 6 (by decide) q943 dX2_restore_103 rfl ?_
    refine v_iconst (n' := 107) h dX2_restore_106 rfl ?_
    refine v_aload_n (n' := 108) h dX2_restore_107 rfl rfl ?_
    refine vm_geti (n' := 111) h m99 32 (by decide) q969 dX2_restore_108 rfl (fun g108 => ?_)
    refine vm_iast (n' := 112) h hok m99 6 2 (by decide) dX2_restore_111 rfl (by omega) (by decide) (by omega) (fun m111 => ?_)
    refine v_aload_n (n' := 113) h dX2_restore_112 rfl rfl ?_
    refine vm_geta (n' := 116) h 7 (by decide) q944 dX2_restore_113 rfl ?_
    refine v_iconst (n' := 117) h dX2_restore_116 rfl ?_
    refine v_aload_n (n' := 118) h dX2_restore_117 rfl rfl ?_
    refine vm_geti (n' := 121) h m111 33 (by decide) q970 dX2_restore_118 rfl (fun g118 => ?_)
    refine vm_iast (n' := 122) h hok m111 7 2 (by decide) dX2_restore_121 rfl (by omega) (by decide) (by omega) (fun m121 => ?_)
    refine v_aload_n (n' := 123) h dX2_restore_122 rfl rfl ?_
    refine vm_geta (n' := 126) h 8 (by decide) q945 dX2_restore_123 rfl ?_
    refine v_iconst (n' := 127) h dX2_restore_126 rfl ?_
    refine v_aload_n (n' := 128) h dX2_restore_127 rfl rfl ?_
    refine vm_geti (n' := 131) h m121 34 (by decide) q971 dX2_restore_128 rfl (fun g128 => ?_)
    refine vm_iast (n' := 132) h hok m121 8 2 (by decide) dX2_restore_131 rfl (by omega) (by decide) (by omega) (fun m131 => ?_)
    refine v_aload_n (n' := 133) h dX2_restore_132 rfl rfl ?_
    refine vm_geta (n' := 136) h 10 (by decide) q947 dX2_restore_133 rfl ?_
    refine v_iconst (n' := 137) h dX2_restore_136 rfl ?_
    refine v_aload_n (n' := 138) h dX2_restore_137 rfl rfl ?_
    refine vm_geti (n' := 141) h m131 35 (by decide) q972 dX2_restore_138 rfl (fun g138 => ?_)
    refine vm_iast (n' := 142) h hok m131 10 2 (by decide) dX2_restore_141 rfl (by omega) (by decide) (by omega) (fun m141 => ?_)
    refine v_aload_n (n' := 143) h dX2_restore_142 rfl rfl ?_
    refine vm_geta (n' := 146) h 11 (by decide) q948 dX2_restore_143 rfl ?_
    refine v_iconst (n' := 147) h dX2_restore_146 rfl ?_
    refine v_aload_n (n' := 148) h dX2_restore_147 rfl rfl ?_
    refine vm_geti (n' := 151) h m141 36 (by decide) q973 dX2_restore_148 rfl (fun g148 => ?_)
    refine vm_iast (n' := 152) h hok m141 11 2 (by decide) dX2_restore_151 rfl (by omega) (by decide) (by omega) (fun m151 => ?_)
    refine v_aload_n (n' := 153) h dX2_restore_152 rfl rfl ?_
    refine v_aload_n (n' := 154) h dX2_restore_153 rfl rfl ?_
    refine vm_geti (n' := 157) h m151 37 (by decide) q974 dX2_restore_154 rfl (fun g154 => ?_)
    refine vm_puti (n' := 160) h m151 19 (by decide) q956 dX2_restore_157 rfl (by omega) (fun m157 => ?_)
    refine v_aload_n (n' := 161) h dX2_restore_160 rfl rfl ?_
    refine v_aload_n (n' := 162) h dX2_restore_161 rfl rfl ?_
    refine vm_geti (n' := 165) h m157 38 (by decide) q975 dX2_restore_162 rfl (fun g162 => ?_)
    refine vm_puti (n' := 168) h m157 20 (by decide) q957 dX2_restore_165 rfl (by omega) (fun m165 => ?_)
    refine v_aload_n (n' := 169) h dX2_restore_168 rfl rfl ?_
    refine v_aload_n (n' := 170) h dX2_restore_169 rfl rfl ?_
    refine vm_geti (n' := 173) h m165 39 (by decide) q976 dX2_restore_170 rfl (fun g170 => ?_)
    refine vm_puti (n' := 176) h m165 22 (by decide) q959 dX2_restore_173 rfl (by omega) (fun m173 => ?_)
    refine v_aload_n (n' := 177) h dX2_restore_176 rfl rfl ?_
    refine v_aload_n (n' := 178) h dX2_restore_177 rfl rfl ?_
    refine vm_geti (n' := 181) h m173 40 (by decide) q977 dX2_restore_178 rfl (fun g178 => ?_)
    refine vm_puti (n' := 184) h m173 28 (by decide) q965 dX2_restore_181 rfl (by omega) (fun m181 => ?_)
    refine v_aload_n (n' := 185) h dX2_restore_184 rfl rfl ?_
    refine vm_geta (n' := 188) h 7 (by decide) q944 dX2_restore_185 rfl ?_
    refine v_iconst (n' := 189) h dX2_restore_188 rfl ?_
    refine vm_iald (n' := 190) h hok m181 7 2 (by decide) dX2_restore_189 rfl (by omega) (by decide) (fun g189 => ?_)
    refine v_iret h hq dX2_restore_190 (Nat.le_refl _) (Nat.le_refl _) (ret_mi m181 ?_)
    unfold oRestore
    rw [if_neg (by omega)]
    obtain ⟨r0, r1, r2, r3, r4, r5, r6, r7, r8⟩ := hR
    have r8 := r8 (by omega)
    refine ⟨?_, fun i => ?_, r1, r2, r3, r4, r5, r8.cgr (fun f i hf i0 i1 => ?_) (fun f hf => ?_) (fun i i0 i1 => ?_) (fun i i0 i1 => ?_) (fun f hf => ?_), r7, fun _ => ksh_cg r8 (fun f i hf => ?_) (fun f hf => ?_)⟩
    · have u7 := r8.1.2.1
      rw [ksh_7] at u7
      simp only [setI_2]
      rw [setA_2o (by decide), setA_2o (by decide), setA_2o (by decide), setA_2s]
      exact u7
    · simp only [setI_2]
      (repeat rw [setA_2o (by decide)])
      (repeat rw [cpA_o (by decide)])
      exact r0 i
    · have hf : f = 2 ∨ f = 3 ∨ f = 4 ∨ f = 5 ∨ f = 12 ∨ f = 13 := by omega
      rcases hf with rfl | rfl | rfl | rfl | rfl | rfl
      · rw [ksh_2]; simp only [setI_2]; (repeat rw [setA_2o (by decide)]); (repeat rw [cpA_o (by decide)]); rw [cpA_g (by omega)]; (repeat rw [cpA_o (by decide)])
      · rw [ksh_3]; simp only [setI_2]; (repeat rw [setA_2o (by decide)]); (repeat rw [cpA_o (by decide)]); rw [cpA_g (by omega)]; (repeat rw [cpA_o (by decide)])
      · rw [ksh_4]; simp only [setI_2]; (repeat rw [setA_2o (by decide)]); (repeat rw [cpA_o (by decide)]); rw [cpA_g (by omega)]; (repeat rw [cpA_o (by decide)])
      · rw [ksh_5]; simp only [setI_2]; (repeat rw [setA_2o (by decide)]); (repeat rw [cpA_o (by decide)]); rw [cpA_g (by omega)]; (repeat rw [cpA_o (by decide)])
      · rw [ksh_12]; simp only [setI_2]; (repeat rw [setA_2o (by decide)]); (repeat rw [cpA_o (by decide)]); rw [cpA_g (by omega)]; (repeat rw [cpA_o (by decide)])
      · rw [ksh_13]; simp only [setI_2]; (repeat rw [setA_2o (by decide)]); (repeat rw [cpA_o (by decide)]); rw [cpA_g (by omega)]; (repeat rw [cpA_o (by decide)])
    · rcases hf with rfl | rfl | rfl | rfl | rfl
      · rw [ksh_6]; simp only [setI_2]; (repeat rw [setA_2o (by decide)]); rw [setA_2s]; rfl
      · rw [ksh_7]; simp only [setI_2]; (repeat rw [setA_2o (by decide)]); rw [setA_2s]; rfl
      · rw [ksh_8]; simp only [setI_2]; (repeat rw [setA_2o (by decide)]); rw [setA_2s]; rfl
      · rw [ksh_10]; simp only [setI_2]; (repeat rw [setA_2o (by decide)]); rw [setA_2s]; rfl
      · rw [ksh_11]; simp only [setI_2]; (repeat rw [setA_2o (by decide)]); rw [setA_2s]; rfl
    · rw [ksh_21]; simp only [setI_2]; (repeat rw [setA_2o (by decide)]); (repeat rw [cpA_o (by decide)]); rw [cpA_g (by omega)]; (repeat rw [cpA_o (by decide)])
    · rw [ksh_29]; simp only [setI_2]; (repeat rw [setA_2o (by decide)]); (repeat rw [cpA_o (by decide)]); rw [cpA_g (by omega)]; (repeat rw [cpA_o (by decide)])
    · rcases hf with rfl | rfl | rfl | rfl
      · rw [ksh_19]; simp only [setI_1]; simp; (try rfl)
      · rw [ksh_20]; simp only [setI_1]; simp; (try rfl)
      · rw [ksh_22]; simp only [setI_1]; simp; (try rfl)
      · rw [ksh_28]; simp only [setI_1]; simp; (try rfl)
    · simp only [setI_2]
      rw [setA_2o (by omega), setA_2o (by omega), setA_2o (by omega), setA_2o (by omega), setA_2o (by omega), cpA_o (by omega), cpA_o (by omega), cpA_o (by omega), cpA_o (by omega), cpA_o (by omega), cpA_o (by omega), cpA_o (by omega), cpA_o (by omega)]
    · rw [setI_1n (by omega), setI_1n (by omega), setI_1n (by omega), setI_1n (by omega)]
      rfl
  · refine v_bipush (n' := 13) h dX2_restore_11 rfl (by decide) ?_
    refine v_iret h hq dX2_restore_13 (Nat.le_refl _) (Nat.le_refl _) (ret_mi hm ?_)
    unfold oRestore; rw [if_pos (by omega)]; exact ⟨rfl, hR⟩
