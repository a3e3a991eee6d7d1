/-! MODEL 1: the page -/
set_option maxRecDepth 100000
def SCi (y : MethodName) (b : ByteArray) (nL : Nat) (ret : Option FieldType) (l : Nat) (As : List Value) (f : Int → Prop) : Prop := ∀ hp : AH, Ct y b nL ret (rmL l) As hp (rI (fun z hp' => f z ∧ hp' = hp))
theorem m_in (v lo hi : Int) (h1 : -9223372036854775808 ≤ v ∧ v ≤ 9223372036854775807) (h2 : -9223372036854775808 ≤ lo ∧ lo ≤ 9223372036854775807) (h3 : -9223372036854775808 ≤ hi ∧ hi ≤ 9223372036854775807) : SCi yX2_in cX2_in 6 (some .boolean) 1 [.long (lI v), .long (lI lo), .long (lI hi)] (fun z => z = bi (lo ≤ v ∧ v ≤ hi)) := by
  intro hp
  refine Ct.of (by decide) (EL.c2 rfl (EL.c2 rfl (EL.c2 rfl EL.n0))) (fun Γ h hq hnm => ?_)
  refine v_lload_n (n' := 1) h dX2_in_0 rfl rfl ?_
  refine v_lload_n (n' := 2) h dX2_in_1 rfl rfl ?_
  refine v_lcmp (n' := 3) h dX2_in_2 rfl (by omega) (by omega) ?_
  refine v_cif_lt (n' := 6) (tgt := 17) h dX2_in_3 rfl rfl (fun c3 => ?_) (fun c3 => ?_)
  · refine v_iconst (n' := 18) h dX2_in_17 rfl ?_
    refine v_zret h hq dX2_in_18 (by decide) (Nat.le_refl _) (Nat.le_refl _) (ret_i ?_)
    exact ⟨(bi_f (by omega)).symm, rfl⟩
  · refine v_lload_n (n' := 7) h dX2_in_6 rfl rfl ?_
    refine v_lload (n' := 9) h dX2_in_7 rfl rfl ?_
    refine v_lcmp (n' := 10) h dX2_in_9 rfl (by omega) (by omega) ?_
    refine v_cif_gt (n' := 13) (tgt := 17) h dX2_in_10 rfl rfl (fun c10 => ?_) (fun c10 => ?_)
    · refine v_iconst (n' := 18) h dX2_in_17 rfl ?_
      refine v_zret h hq dX2_in_18 (by decide) (Nat.le_refl _) (Nat.le_refl _) (ret_i ?_)
      exact ⟨(bi_f (by omega)).symm, rfl⟩
    · refine v_iconst (n' := 14) h dX2_in_13 rfl ?_
      refine v_goto (tgt := 18) h dX2_in_14 rfl ?_
      refine v_zret h hq dX2_in_18 (by decide) (Nat.le_refl _) (Nat.le_refl _) (ret_i ?_)
      exact ⟨(bi_t (by omega)).symm, rfl⟩
def kindBy (c : Int) : Int := if c = 110 then 0 else if c = 108 then 1 else if c = 99 then 2 else if c = 102 then 3 else if c = 115 then 4 else -1
theorem m_kindBy (c : Int) (hc : -2147483648 ≤ c ∧ c ≤ 2147483647) : SCi yX2_kindBy cX2_kindBy 1 (some .int) 1 [.int (iI c)] (fun z => z = kindBy c) := by
  intro hp
  refine Ct.of (by decide) (EL.c1 rfl EL.n0) (fun Γ h hq hnm => ?_)
  refine v_iload_n (n' := 1) h dX2_kindBy_0 rfl rfl ?_
  refine v_look5 (t0 := 56) (t1 := 58) (t2 := 54) (t3 := 52) (t4 := 60) (td := 62) h dX2_kindBy_1 (by omega) (by decide) rfl rfl rfl rfl rfl rfl (fun s1 => ?_) (fun s1 => ?_) (fun s1 => ?_) (fun s1 => ?_) (fun s1 => ?_) (fun s1 => ?_)
  · refine v_iconst (n' := 57) h dX2_kindBy_56 rfl ?_
    refine v_iret h hq dX2_kindBy_57 (Nat.le_refl _) (Nat.le_refl _) (ret_i ?_)
    exact ⟨by subst_vars; decide, rfl⟩
  · refine v_iconst (n' := 59) h dX2_kindBy_58 rfl ?_
    refine v_iret h hq dX2_kindBy_59 (Nat.le_refl _) (Nat.le_refl _) (ret_i ?_)
    exact ⟨by subst_vars; decide, rfl⟩
  · refine v_iconst (n' := 55) h dX2_kindBy_54 rfl ?_
    refine v_iret h hq dX2_kindBy_55 (Nat.le_refl _) (Nat.le_refl _) (ret_i ?_)
    exact ⟨by subst_vars; decide, rfl⟩
  · refine v_iconst (n' := 53) h dX2_kindBy_52 rfl ?_
    refine v_iret h hq dX2_kindBy_53 (Nat.le_refl _) (Nat.le_refl _) (ret_i ?_)
    exact ⟨by subst_vars; decide, rfl⟩
  · refine v_iconst (n' := 61) h dX2_kindBy_60 rfl ?_
    refine v_iret h hq dX2_kindBy_61 (Nat.le_refl _) (Nat.le_refl _) (ret_i ?_)
    exact ⟨by subst_vars; decide, rfl⟩
  · refine v_iconst (n' := 63) h dX2_kindBy_62 rfl ?_
    refine v_iret h hq dX2_kindBy_63 (Nat.le_refl _) (Nat.le_refl _) (ret_i ?_)
    exact ⟨by unfold kindBy; simp [s1], rfl⟩
def isRat (a b : Int) : Prop := (1 ≤ b ∧ b ≤ 5) ∧ 0 < a ∧ a < b ∧ b < 2 * a
theorem m_isRatio (a b : Int) (ha : -1073741824 ≤ a ∧ a ≤ 1073741823) (hb : -2147483648 ≤ b ∧ b ≤ 2147483647) : SCi yX2_isRatio cX2_isRatio 2 (some .boolean) 2 [.int (iI a), .int (iI b)] (fun z => z = bi (isRat a b)) := by
  intro hp
  refine Ct.of (by decide) (EL.c1 rfl (EL.c1 rfl EL.n0)) (fun Γ h hq hnm => ?_)
  refine v_iload_n (n' := 1) h dX2_isRatio_0 rfl rfl ?_
  refine v_i2l (n' := 2) h dX2_isRatio_1 rfl (by omega) ?_
  refine v_lconst (n' := 3) (y := 1) h dX2_isRatio_2 rfl rfl ?_
  refine v_ldc2 (n' := 6) (z := 5) h dX2_isRatio_3 rfl q1117 (by decide) ?_
  refine vs_callI (n' := 9) h (m_in _ _ _ (by omega) (by omega) (by omega)) (lw_S q1093 q1094 q87 q1095) hdX2_in (by decide) ⟨Nat.zero_le _, Nat.zero_le _⟩ (Nat.le_of_ble_eq_true rfl) dX2_isRatio_6 rfl rfl (fun z6 p6 => ?_)
  have p6 := p6.symm
  subst p6
  refine v_bif_eq (n' := 12) (tgt := 32) h dX2_isRatio_9 rfl rfl (fun c9 => ?_) (fun c9 => ?_)
  · refine v_iconst (n' := 33) h dX2_isRatio_32 rfl ?_
    refine v_zret h hq dX2_isRatio_33 (by decide) (Nat.le_refl _) (Nat.le_refl _) (ret_i ?_)
    exact ⟨(bi_f (by unfold isRat; omega)).symm, rfl⟩
  · refine v_iload_n (n' := 13) h dX2_isRatio_12 rfl rfl ?_
    refine v_if_le (n' := 16) (tgt := 32) h dX2_isRatio_13 rfl rfl (by omega) (fun c13 => ?_) (fun c13 => ?_)
    · refine v_iconst (n' := 33) h dX2_isRatio_32 rfl ?_
      refine v_zret h hq dX2_isRatio_33 (by decide) (Nat.le_refl _) (Nat.le_refl _) (ret_i ?_)
      exact ⟨(bi_f (by unfold isRat; omega)).symm, rfl⟩
    · refine v_iload_n (n' := 17) h dX2_isRatio_16 rfl rfl ?_
      refine v_iload_n (n' := 18) h dX2_isRatio_17 rfl rfl ?_
      refine v_icmp_ge (n' := 21) (tgt := 32) h dX2_isRatio_18 rfl rfl (by omega) (by omega) (fun c18 => ?_) (fun c18 => ?_)
      · refine v_iconst (n' := 33) h dX2_isRatio_32 rfl ?_
        refine v_zret h hq dX2_isRatio_33 (by decide) (Nat.le_refl _) (Nat.le_refl _) (ret_i ?_)
        exact ⟨(bi_f (by unfold isRat; omega)).symm, rfl⟩
      · refine v_iconst (n' := 22) h dX2_isRatio_21 rfl ?_
        refine v_iload_n (n' := 23) h dX2_isRatio_22 rfl rfl ?_
        refine v_imul (n' := 24) h dX2_isRatio_23 rfl ?_
        refine v_iload_n (n' := 25) h dX2_isRatio_24 rfl rfl ?_
        refine v_icmp_le (n' := 28) (tgt := 32) h dX2_isRatio_25 rfl rfl (by omega) (by omega) (fun c25 => ?_) (fun c25 => ?_)
        · refine v_iconst (n' := 33) h dX2_isRatio_32 rfl ?_
          refine v_zret h hq dX2_isRatio_33 (by decide) (Nat.le_refl _) (Nat.le_refl _) (ret_i ?_)
          exact ⟨(bi_f (by unfold isRat; omega)).symm, rfl⟩
        · refine v_iconst (n' := 29) h dX2_isRatio_28 rfl ?_
          refine v_goto (tgt := 33) h dX2_isRatio_29 rfl ?_
          refine v_zret h hq dX2_isRatio_33 (by decide) (Nat.le_refl _) (Nat.le_refl _) (ret_i ?_)
          exact ⟨(bi_t (by unfold isRat; omega)).symm, rfl⟩
/-- the page's signs and how many -/
def PgOk (σ : MS) : Prop := (∀ i, 0 ≤ σ.2 0 i ∧ σ.2 0 i ≤ 126) ∧ 0 ≤ σ.1 1 ∧ σ.1 1 ≤ 54
def letterR (σ : MS) (c : Int) : Int := if ¬ (1 ≤ c ∧ c ≤ 126) then -102 else if σ.1 1 = 54 then -104 else σ.1 1 + 1
def letterS (σ : MS) (c : Int) : MS := if ¬ (1 ≤ c ∧ c ≤ 126) then σ else if σ.1 1 = 54 then σ else setI (setA σ 0 (σ.1 1) c) 1 (σ.1 1 + 1)
theorem m_letter (σ : MS) (c : Int) (hc : -2147483648 ≤ c ∧ c ≤ 2147483647) (hg : PgOk σ) : MCi yX2_letter cX2_letter 2 (some .int) 2 [.int (iI c)] σ (fun z σ' => z = letterR σ c ∧ σ' = letterS σ c) := by
  intro ad hok hm
  obtain ⟨hg1, hg2⟩ := hg
  refine Ct.of (by decide) (EL.c1 rfl (EL.c1 rfl EL.n0)) (fun Γ h hq hnm => ?_)
  refine v_iload_n (n' := 1) h dX2_letter_0 rfl rfl ?_
  refine v_i2l (n' := 2) h dX2_letter_1 rfl (by omega) ?_
  refine v_lconst (n' := 3) (y := 1) h dX2_letter_2 rfl rfl ?_
  refine v_ldc2 (n' := 6) (z := 126) h dX2_letter_3 rfl q1092 (by decide) ?_
  refine vs_callI (n' := 9) h (m_in _ _ _ (by omega) (by omega) (by omega)) (lw_S q1093 q1094 q87 q1095) hdX2_in (by decide) ⟨Nat.zero_le _, Nat.zero_le _⟩ (Nat.le_of_ble_eq_true rfl) dX2_letter_6 rfl rfl (fun z6 p6 => ?_)
  have p6 := p6.symm
  subst p6
  refine v_bif_ne (n' := 12) (tgt := 15) h dX2_letter_9 rfl rfl (fun c9 => ?_) (fun c9 => ?_)
  · refine v_aload_n (n' := 16) h dX2_letter_15 rfl rfl ?_
    refine vm_geti (n' := 19) h hm 1 (by decide) q938 dX2_letter_16 rfl (fun g16 => ?_)
    refine v_bipush (n' := 21) h dX2_letter_19 rfl (by decide) ?_
    refine v_icmp_ne (n' := 24) (tgt := 27) h dX2_letter_21 rfl rfl (by omega) (by omega) (fun c21 => ?_) (fun c21 => ?_)
    · refine v_aload_n (n' := 28) h dX2_letter_27 rfl rfl ?_
      refine vm_geta (n' := 31) h 0 (by decide) q937 dX2_letter_28 rfl ?_
      refine v_aload_n (n' := 32) h dX2_letter_31 rfl rfl ?_
      refine vm_geti (n' := 35) h hm 1 (by decide) q938 dX2_letter_32 rfl (fun g32 => ?_)
      refine v_iload_n (n' := 36) h dX2_letter_35 rfl rfl ?_
      refine vm_iast (n' := 37) h hok hm 0 54 (by decide) dX2_letter_36 rfl (by omega) (by decide) (by omega) (fun m36 => ?_)
      refine v_aload_n (n' := 38) h dX2_letter_37 rfl rfl ?_
      refine v_dup (n' := 39) h dX2_letter_38 rfl rfl ?_
      refine vm_geti (n' := 42) h m36 1 (by decide) q938 dX2_letter_39 rfl (fun g39 => ?_)
      refine v_iconst (n' := 43) h dX2_letter_42 rfl ?_
      refine v_iadd (n' := 44) h dX2_letter_43 rfl ?_
      refine vm_puti (n' := 47) h m36 1 (by decide) q938 dX2_letter_44 rfl (by rw [setA_1] at *; omega) (fun m44 => ?_)
      refine v_aload_n (n' := 48) h dX2_letter_47 rfl rfl ?_
      refine vm_geti (n' := 51) h m44 1 (by decide) q938 dX2_letter_48 rfl (fun g48 => ?_)
      refine v_iret h hq dX2_letter_51 (Nat.le_refl _) (Nat.le_refl _) (ret_mi m44 ?_)
      refine ⟨?_, by unfold letterS; rw [if_neg (fun z => z c9), if_neg (by omega)]; rfl⟩
      unfold letterR
      rw [if_neg (fun z => z c9), if_neg (by omega), setI_1s]
      rfl
    · refine v_bipush (n' := 26) h dX2_letter_24 rfl (by decide) ?_
      refine v_iret h hq dX2_letter_26 (Nat.le_refl _) (Nat.le_refl _) (ret_mi hm ?_)
      exact ⟨by unfold letterR; rw [if_neg (fun z => z c9), if_pos (by omega)], by unfold letterS; rw [if_neg (fun z => z c9), if_pos (by omega)]⟩
  · refine v_bipush (n' := 14) h dX2_letter_12 rfl (by decide) ?_
    refine v_iret h hq dX2_letter_14 (Nat.le_refl _) (Nat.le_refl _) (ret_mi hm ?_)
    exact ⟨by unfold letterR; rw [if_pos c9], by unfold letterS; rw [if_pos c9]⟩
theorem m_blank (σ : MS) : MCi yX2_blank cX2_blank 2 (some .int) 1 [] σ (fun z σ' => z = σ.1 1 ∧ σ' = setI σ 1 0) := by
  intro ad hok hm
  refine Ct.of (by decide) (EL.c1 rfl (EL.nn EL.n0)) (fun Γ h hq hnm => ?_)
  refine v_aload_n (n' := 1) h dX2_blank_0 rfl rfl ?_
  refine vm_geti (n' := 4) h hm 1 (by decide) q938 dX2_blank_1 rfl (fun g1 => ?_)
  refine v_istore1 (n' := 5) h dX2_blank_4 rfl rfl ?_
  refine v_aload_n (n' := 6) h dX2_blank_5 rfl rfl ?_
  refine v_iconst (n' := 7) h dX2_blank_6 rfl ?_
  refine vm_puti (n' := 10) h hm 1 (by decide) q938 dX2_blank_7 rfl (by omega) (fun m7 => ?_)
  refine v_iload_n (n' := 11) h dX2_blank_10 rfl rfl ?_
  refine v_iret h hq dX2_blank_11 (Nat.le_refl _) (Nat.le_refl _) (ret_mi m7 ?_)
  exact ⟨rfl, rfl⟩
def KeyAt (g : Int → Int) (at_ : Int) : Int := 10 * (g at_ - 48) + g (at_ + 1) - 48
theorem m_keyAt (σ : MS) (k : Int) (hk : 0 ≤ k ∧ k ≤ 52) (hg : PgOk σ) : MCi yX2_keyAt cX2_keyAt 2 (some .int) 1 [.int (iI k)] σ (fun z σ' => z = KeyAt (σ.2 0) k ∧ σ' = σ) := by
  intro ad hok hm
  refine Ct.of (by decide) (EL.c1 rfl (EL.c1 rfl EL.n0)) (fun Γ h hq hnm => ?_)
  refine v_bipush (n' := 2) h dX2_keyAt_0 rfl (by decide) ?_
  refine v_aload_n (n' := 3) h dX2_keyAt_2 rfl rfl ?_
  refine vm_geta (n' := 6) h 0 (by decide) q937 dX2_keyAt_3 rfl ?_
  refine v_iload_n (n' := 7) h dX2_keyAt_6 rfl rfl ?_
  refine vm_iald (n' := 8) h hok hm 0 54 (by decide) dX2_keyAt_7 rfl (by omega) (by decide) (fun g7 => ?_)
  refine v_bipush (n' := 10) h dX2_keyAt_8 rfl (by decide) ?_
  refine v_isub (n' := 11) h dX2_keyAt_10 rfl ?_
  refine v_imul (n' := 12) h dX2_keyAt_11 rfl ?_
  refine v_aload_n (n' := 13) h dX2_keyAt_12 rfl rfl ?_
  refine vm_geta (n' := 16) h 0 (by decide) q937 dX2_keyAt_13 rfl ?_
  refine v_iload_n (n' := 17) h dX2_keyAt_16 rfl rfl ?_
  refine v_iconst (n' := 18) h dX2_keyAt_17 rfl ?_
  refine v_iadd (n' := 19) h dX2_keyAt_18 rfl ?_
  refine vm_iald (n' := 20) h hok hm 0 54 (by decide) dX2_keyAt_19 rfl (by omega) (by decide) (fun g19 => ?_)
  refine v_iadd (n' := 21) h dX2_keyAt_20 rfl ?_
  refine v_bipush (n' := 23) h dX2_keyAt_21 rfl (by decide) ?_
  refine v_isub (n' := 24) h dX2_keyAt_23 rfl ?_
  refine v_iret h hq dX2_keyAt_24 (Nat.le_refl _) (Nat.le_refl _) (ret_mi hm ?_)
  exact ⟨rfl, rfl⟩
theorem KeyAt_r {σ : MS} (hg : PgOk σ) (k : Int) : -528 ≤ KeyAt (σ.2 0) k ∧ KeyAt (σ.2 0) k ≤ 858 := by
  have h1 := hg.1 k
  have h2 := hg.1 (k + 1)
  unfold KeyAt
  omega
def Told (g : Int → Int) (n : Nat) (key : Int) : Prop := ∃ j : Nat, j < n ∧ KeyAt g (6 + 6 * (j : Int)) = key
theorem m_isTold_loop {Γ : GX} {σ : MS} {ad : Nat → Nat} (hok : AdOk ad) (hm : MR σ) (hg : PgOk σ) (q : Nat) (hq8 : q ≤ 7) (h : Ok0 cX2_isTold yX2_isTold.cls (some .boolean) (rmL 2) Γ) (hq : Rt (PI ad (fun z σ' => z = bi (Told (σ.2 0) q (KeyAt (σ.2 0) (6 + 6 * (q : Int)))) ∧ σ' = σ)) 0 0 Γ) :
    ∀ (n j : Nat), j + n = q → V Γ 0 0 (mH ad σ) 5 [some (.ref (ad 50)), some (.int (iI (7 + 6 * (q : Int)))), some (.int (iI (bi (Told (σ.2 0) j (KeyAt (σ.2 0) (6 + 6 * (q : Int))))))), some (.int (iI (6 + 6 * (j : Int))))] [] := by
  intro n
  induction n with
  | zero =>
    intro j hj
    obtain rfl : j = q := by omega
    refine v_iload_n (n' := 6) h dX2_isTold_5 rfl rfl ?_
    refine v_iconst (n' := 7) h dX2_isTold_6 rfl ?_
    refine v_iadd (n' := 8) h dX2_isTold_7 rfl ?_
    refine v_iload_n (n' := 9) h dX2_isTold_8 rfl rfl ?_
    refine v_icmp_ge (n' := 12) (tgt := 43) h dX2_isTold_9 rfl rfl (by omega) (by omega) (fun c9 => ?_) (fun c9 => ?_)
    · refine v_iload_n (n' := 44) h dX2_isTold_43 rfl rfl ?_
      refine v_zret h hq dX2_isTold_44 (bi_01 _) (Nat.le_refl _) (Nat.le_refl _) (ret_mi hm ?_)
      exact ⟨rfl, rfl⟩
    · exact absurd (show (7 : Int) + 6 * (j : Int) ≤ 6 + 6 * (j : Int) + 1 by omega) c9
  | succ n ih =>
    intro j hj
    have e : (7 + 6 * (q : Int)) - 1 = 6 + 6 * (q : Int) := by omega
    have st : ∀ b : Prop, (b ↔ Told (σ.2 0) (j + 1) (KeyAt (σ.2 0) (6 + 6 * (q : Int)))) → bi b = bi (Told (σ.2 0) (j + 1) (KeyAt (σ.2 0) (6 + 6 * (q : Int)))) := fun b hb => bi_c hb
    have ih' := ih (j + 1) (by omega)
    have e2 : (6 : Int) + 6 * ((j + 1 : Nat) : Int) = 6 + 6 * (j : Int) + 6 := by omega
    rw [e2] at ih'
    refine v_iload_n (n' := 6) h dX2_isTold_5 rfl rfl ?_
    refine v_iconst (n' := 7) h dX2_isTold_6 rfl ?_
    refine v_iadd (n' := 8) h dX2_isTold_7 rfl ?_
    refine v_iload_n (n' := 9) h dX2_isTold_8 rfl rfl ?_
    refine v_icmp_ge (n' := 12) (tgt := 43) h dX2_isTold_9 rfl rfl (by omega) (by omega) (fun c9 => ?_) (fun c9 => ?_)
    · exact absurd c9 (by omega)
    · refine v_iload_n (n' := 13) h dX2_isTold_12 rfl rfl ?_
      refine v_bif_ne (n' := 16) (tgt := 31) h dX2_isTold_13 rfl rfl (fun c13 => ?_) (fun c13 => ?_)
      · refine v_iconst (n' := 32) h dX2_isTold_31 rfl ?_
        refine v_goto (tgt := 36) h dX2_isTold_32 rfl ?_
        refine V.cast (st2 := [.int (iI (bi (Told (σ.2 0) (j + 1) (KeyAt (σ.2 0) (6 + 6 * (q : Int))))))]) rfl ?_ ?_
        · first
          | rw [bi_t (show Told (σ.2 0) (j + 1) (KeyAt (σ.2 0) (6 + 6 * (q : Int))) from by obtain ⟨i, h1, h2⟩ := c13; exact ⟨i, by omega, h2⟩)]
          | rw [bi_t (show Told (σ.2 0) (j + 1) (KeyAt (σ.2 0) (6 + 6 * (q : Int))) from ⟨j, by omega, by rw [e] at c28; exact c28⟩)]
          | rw [bi_f (show ¬ Told (σ.2 0) (j + 1) (KeyAt (σ.2 0) (6 + 6 * (q : Int))) from by
              rintro ⟨i, h1, h2⟩
              by_cases hi : i = j
              · subst hi; rw [e] at c28; exact c28 h2
              · exact c13 ⟨i, by omega, h2⟩)]
        refine v_istore2 (n' := 37) h dX2_isTold_36 rfl rfl ?_
        refine v_iinc3 (n' := 40) h dX2_isTold_37 rfl rfl ?_
        refine v_goto (tgt := 5) h dX2_isTold_40 rfl ?_
        exact ih'
      · refine v_aload_n (n' := 17) h dX2_isTold_16 rfl rfl ?_
        refine v_iload_n (n' := 18) h dX2_isTold_17 rfl rfl ?_
        refine vm_callI (n' := 21) h hok hm (m_keyAt _ _ (by omega) hg) rfl (lw_V q1132 q1134 qs42 q87 q1135) hdX2_keyAt (by decide) ⟨Nat.zero_le _, Nat.zero_le _⟩ (Nat.le_of_ble_eq_true rfl) dX2_isTold_18 rfl rfl (fun z18 s18 p18 m18 => ?_)
        obtain ⟨e18, f18⟩ := p18
        have e18 := e18.symm
        have f18 := f18.symm
        subst e18 f18
        refine v_aload_n (n' := 22) h dX2_isTold_21 rfl rfl ?_
        refine v_iload_n (n' := 23) h dX2_isTold_22 rfl rfl ?_
        refine v_iconst (n' := 24) h dX2_isTold_23 rfl ?_
        refine v_isub (n' := 25) h dX2_isTold_24 rfl ?_
        refine vm_callI (n' := 28) h hok m18 (m_keyAt _ _ (by omega) hg) rfl (lw_V q1132 q1134 qs42 q87 q1135) hdX2_keyAt (by decide) ⟨Nat.zero_le _, Nat.zero_le _⟩ (Nat.le_of_ble_eq_true rfl) dX2_isTold_25 rfl rfl (fun z25 s25 p25 m25 => ?_)
        obtain ⟨e25, f25⟩ := p25
        have e25 := e25.symm
        have f25 := f25.symm
        subst e25 f25
        refine v_icmp_ne (n' := 31) (tgt := 35) h dX2_isTold_28 rfl rfl (by have := KeyAt_r hg (6 + 6 * (j : Int)); have := KeyAt_r hg (7 + 6 * (q : Int) - 1); omega) (by have := KeyAt_r hg (6 + 6 * (j : Int)); have := KeyAt_r hg (7 + 6 * (q : Int) - 1); omega) (fun c28 => ?_) (fun c28 => ?_)
        · refine v_iconst (n' := 36) h dX2_isTold_35 rfl ?_
          refine V.cast (st2 := [.int (iI (bi (Told (σ.2 0) (j + 1) (KeyAt (σ.2 0) (6 + 6 * (q : Int))))))]) rfl ?_ ?_
          · first
            | rw [bi_t (show Told (σ.2 0) (j + 1) (KeyAt (σ.2 0) (6 + 6 * (q : Int))) from by obtain ⟨i, h1, h2⟩ := c13; exact ⟨i, by omega, h2⟩)]
            | rw [bi_t (show Told (σ.2 0) (j + 1) (KeyAt (σ.2 0) (6 + 6 * (q : Int))) from ⟨j, by omega, by rw [e] at c28; exact c28⟩)]
            | rw [bi_f (show ¬ Told (σ.2 0) (j + 1) (KeyAt (σ.2 0) (6 + 6 * (q : Int))) from by
                rintro ⟨i, h1, h2⟩
                by_cases hi : i = j
                · subst hi; rw [e] at c28; exact c28 h2
                · exact c13 ⟨i, by omega, h2⟩)]
          refine v_istore2 (n' := 37) h dX2_isTold_36 rfl rfl ?_
          refine v_iinc3 (n' := 40) h dX2_isTold_37 rfl rfl ?_
          refine v_goto (tgt := 5) h dX2_isTold_40 rfl ?_
          exact ih'
        · refine v_iconst (n' := 32) h dX2_isTold_31 rfl ?_
          refine v_goto (tgt := 36) h dX2_isTold_32 rfl ?_
          refine V.cast (st2 := [.int (iI (bi (Told (σ.2 0) (j + 1) (KeyAt (σ.2 0) (6 + 6 * (q : Int))))))]) rfl ?_ ?_
          · first
            | rw [bi_t (show Told (σ.2 0) (j + 1) (KeyAt (σ.2 0) (6 + 6 * (q : Int))) from by obtain ⟨i, h1, h2⟩ := c13; exact ⟨i, by omega, h2⟩)]
            | rw [bi_t (show Told (σ.2 0) (j + 1) (KeyAt (σ.2 0) (6 + 6 * (q : Int))) from ⟨j, by omega, by rw [e] at c28; exact c28⟩)]
            | rw [bi_f (show ¬ Told (σ.2 0) (j + 1) (KeyAt (σ.2 0) (6 + 6 * (q : Int))) from by
                rintro ⟨i, h1, h2⟩
                by_cases hi : i = j
                · subst hi; rw [e] at c28; exact c28 h2
                · exact c13 ⟨i, by omega, h2⟩)]
          refine v_istore2 (n' := 37) h dX2_isTold_36 rfl rfl ?_
          refine v_iinc3 (n' := 40) h dX2_isTold_37 rfl rfl ?_
          refine v_goto (tgt := 5) h dX2_isTold_40 rfl ?_
          exact ih'
theorem m_isTold (σ : MS) (hg : PgOk σ) (q : Nat) (hq8 : q ≤ 7) : MCi yX2_isTold cX2_isTold 4 (some .boolean) 2 [.int (iI (7 + 6 * (q : Int)))] σ (fun z σ' => z = bi (Told (σ.2 0) q (KeyAt (σ.2 0) (6 + 6 * (q : Int)))) ∧ σ' = σ) := by
  intro ad hok hm
  refine Ct.of (by decide) (EL.c1 rfl (EL.c1 rfl (EL.nn (EL.nn EL.n0)))) (fun Γ h hq hnm => ?_)
  have st : (0 : Int) = bi (Told (σ.2 0) 0 (KeyAt (σ.2 0) (6 + 6 * (q : Int)))) := (bi_f (fun z => by obtain ⟨j, h1, -⟩ := z; omega)).symm
  have lp := m_isTold_loop hok hm hg q hq8 h hq q 0 (by omega)
  rw [← st] at lp
  refine v_iconst (n' := 1) h dX2_isTold_0 rfl ?_
  refine v_istore2 (n' := 2) h dX2_isTold_1 rfl rfl ?_
  refine v_bipush (n' := 4) h dX2_isTold_2 rfl (by decide) ?_
  refine v_istore3 (n' := 5) h dX2_isTold_4 rfl rfl ?_
  exact lp
def digit (c : Int) : Prop := 48 ≤ c ∧ c ≤ 57
def ESign (g : Int → Int) (q : Nat) (j : Int) : Prop := if j = 0 then kindBy (g (5 + 6 * (q : Int))) ≠ -1 else if j = 1 then digit (g (6 + 6 * (q : Int))) else if j = 2 then digit (g (7 + 6 * (q : Int))) ∧ ¬ Told g q (KeyAt g (6 + 6 * (q : Int))) else if j = 3 then g (8 + 6 * (q : Int)) = 61 else if j = 4 then digit (g (9 + 6 * (q : Int))) else g (10 + 6 * (q : Int)) = 44 ∧ q < 7
theorem kindBy_r (c : Int) : -1 ≤ kindBy c ∧ kindBy c ≤ 4 := by
  unfold kindBy
  repeat' split
  all_goals omega
theorem m_isEntrySign (σ : MS) (hg : PgOk σ) (q : Nat) (j : Int) (hj : 0 ≤ j ∧ j < 6) (hq8 : 5 + 6 * (q : Int) + j ≤ 53) : MCi yX2_isEntrySign cX2_isEntrySign 3 (some .boolean) 3 [.int (iI (5 + 6 * (q : Int) + j))] σ (fun z σ' => z = bi (ESign (σ.2 0) q j) ∧ σ' = σ) := by
  intro ad hok hm
  refine Ct.of (by decide) (EL.c1 rfl (EL.c1 rfl (EL.nn EL.n0))) (fun Γ h hq hnm => ?_)
  have ej : (5 + 6 * (q : Int) + j - 5) % 6 = j := by omega
  have hgp := hg.1 (5 + 6 * (q : Int) + j)
  have kr := kindBy_r (σ.2 0 (5 + 6 * (q : Int) + j))
  refine v_aload_n (n' := 1) h dX2_isEntrySign_0 rfl rfl ?_
  refine vm_geta (n' := 4) h 0 (by decide) q937 dX2_isEntrySign_1 rfl ?_
  refine v_iload_n (n' := 5) h dX2_isEntrySign_4 rfl rfl ?_
  refine vm_iald (n' := 6) h hok hm 0 54 (by decide) dX2_isEntrySign_5 rfl (by omega) (by decide) (fun g5 => ?_)
  refine v_istore2 (n' := 7) h dX2_isEntrySign_6 rfl rfl ?_
  refine v_iload_n (n' := 8) h dX2_isEntrySign_7 rfl rfl ?_
  refine v_iconst (n' := 9) h dX2_isEntrySign_8 rfl ?_
  refine v_isub (n' := 10) h dX2_isEntrySign_9 rfl ?_
  refine v_bipush (n' := 12) h dX2_isEntrySign_10 rfl (by decide) ?_
  refine v_irem (n' := 13) h dX2_isEntrySign_12 rfl (by omega) (by omega) ?_
  refine v_table5 (t0 := 48) (t1 := 62) (t2 := 74) (t3 := 102) (t4 := 62) (td := 114) h dX2_isEntrySign_13 (by omega) rfl rfl rfl rfl rfl rfl rfl (fun s13 => ?_) (fun s13 => ?_) (fun s13 => ?_) (fun s13 => ?_) (fun s13 => ?_) (fun s13 => ?_)
  · obtain rfl : j = 0 := by omega
    refine v_iload_n (n' := 49) h dX2_isEntrySign_48 rfl rfl ?_
    refine vs_callI (n' := 52) h (m_kindBy _ (by omega)) (lw_S q1124 q1125 q87 q1126) hdX2_kindBy (by decide) ⟨Nat.zero_le _, Nat.zero_le _⟩ (Nat.le_of_ble_eq_true rfl) dX2_isEntrySign_49 rfl rfl (fun z49 p49 => ?_)
    have p49 := p49.symm
    subst p49
    refine v_iconst (n' := 53) h dX2_isEntrySign_52 rfl ?_
    refine v_icmp_eq (n' := 56) (tgt := 60) h dX2_isEntrySign_53 rfl rfl (by omega) (by omega) (fun c53 => ?_) (fun c53 => ?_)
    · refine v_iconst (n' := 61) h dX2_isEntrySign_60 rfl ?_
      refine v_zret h hq dX2_isEntrySign_61 (by decide) (Nat.le_refl _) (Nat.le_refl _) (ret_mi hm ?_)
      exact ⟨(bi_f (by unfold ESign; rw [if_pos rfl]; rw [Int.add_zero] at c53; first | exact c53 | exact fun z => z c53)).symm, rfl⟩
    · refine v_iconst (n' := 57) h dX2_isEntrySign_56 rfl ?_
      refine v_goto (tgt := 61) h dX2_isEntrySign_57 rfl ?_
      refine v_zret h hq dX2_isEntrySign_61 (by decide) (Nat.le_refl _) (Nat.le_refl _) (ret_mi hm ?_)
      exact ⟨(bi_t (by unfold ESign; rw [if_pos rfl]; rw [Int.add_zero] at c53; first | exact c53 | exact fun z => z c53)).symm, rfl⟩
  · obtain rfl : j = 1 := by omega
    refine v_iload_n (n' := 63) h dX2_isEntrySign_62 rfl rfl ?_
    refine v_i2l (n' := 64) h dX2_isEntrySign_63 rfl (by omega) ?_
    refine v_ldc2 (n' := 67) (z := 48) h dX2_isEntrySign_64 rfl q1127 (by decide) ?_
    refine v_ldc2 (n' := 70) (z := 57) h dX2_isEntrySign_67 rfl q1119 (by decide) ?_
    refine vs_callI (n' := 73) h (m_in _ _ _ (by omega) (by omega) (by omega)) (lw_S q1093 q1094 q87 q1095) hdX2_in (by decide) ⟨Nat.zero_le _, Nat.zero_le _⟩ (Nat.le_of_ble_eq_true rfl) dX2_isEntrySign_70 rfl rfl (fun z70 p70 => ?_)
    have p70 := p70.symm
    subst p70
    refine v_zret h hq dX2_isEntrySign_73 (bi_01 _) (Nat.le_refl _) (Nat.le_refl _) (ret_mi hm ?_)
    exact ⟨bi_c (by unfold ESign digit; simp only [Int.reduceEq, if_false, if_true]; rw [show 5 + 6 * (q : Int) + 1 = 6 + 6 * (q : Int) by omega]), rfl⟩
  · obtain rfl : j = 2 := by omega
    have e72 : (5 : Int) + 6 * (q : Int) + 2 = 7 + 6 * (q : Int) := by omega
    refine v_iload_n (n' := 75) h dX2_isEntrySign_74 rfl rfl ?_
    refine v_i2l (n' := 76) h dX2_isEntrySign_75 rfl (by omega) ?_
    refine v_ldc2 (n' := 79) (z := 48) h dX2_isEntrySign_76 rfl q1127 (by decide) ?_
    refine v_ldc2 (n' := 82) (z := 57) h dX2_isEntrySign_79 rfl q1119 (by decide) ?_
    refine vs_callI (n' := 85) h (m_in _ _ _ (by omega) (by omega) (by omega)) (lw_S q1093 q1094 q87 q1095) hdX2_in (by decide) ⟨Nat.zero_le _, Nat.zero_le _⟩ (Nat.le_of_ble_eq_true rfl) dX2_isEntrySign_82 rfl rfl (fun z82 p82 => ?_)
    have p82 := p82.symm
    subst p82
    refine v_bif_eq (n' := 88) (tgt := 100) h dX2_isEntrySign_85 rfl rfl (fun c85 => ?_) (fun c85 => ?_)
    · refine v_iconst (n' := 101) h dX2_isEntrySign_100 rfl ?_
      refine v_zret h hq dX2_isEntrySign_101 (by decide) (Nat.le_refl _) (Nat.le_refl _) (ret_mi hm ?_)
      exact ⟨(bi_f (by unfold ESign digit; simp only [Int.reduceEq, if_false, if_true]; rw [← e72]; exact fun z => c85 z.1)).symm, rfl⟩
    · refine v_aload_n (n' := 89) h dX2_isEntrySign_88 rfl rfl ?_
      refine v_iload_n (n' := 90) h dX2_isEntrySign_89 rfl rfl ?_
      rw [e72]
      refine vm_callI (n' := 93) h hok hm (m_isTold _ hg q (by omega)) rfl (lw_V q1128 q1130 qs41 q87 q1131) hdX2_isTold (by decide) ⟨Nat.zero_le _, Nat.zero_le _⟩ (Nat.le_of_ble_eq_true rfl) dX2_isEntrySign_90 rfl rfl (fun z90 s90 p90 m90 => ?_)
      obtain ⟨e90, f90⟩ := p90
      have e90 := e90.symm
      have f90 := f90.symm
      subst e90 f90
      refine v_bif_ne (n' := 96) (tgt := 100) h dX2_isEntrySign_93 rfl rfl (fun c93 => ?_) (fun c93 => ?_)
      · refine v_iconst (n' := 101) h dX2_isEntrySign_100 rfl ?_
        refine v_zret h hq dX2_isEntrySign_101 (by decide) (Nat.le_refl _) (Nat.le_refl _) (ret_mi m90 ?_)
        exact ⟨(bi_f (by unfold ESign digit; simp only [Int.reduceEq, if_false, if_true]; exact fun z => z.2 c93)).symm, rfl⟩
      · refine v_iconst (n' := 97) h dX2_isEntrySign_96 rfl ?_
        refine v_goto (tgt := 101) h dX2_isEntrySign_97 rfl ?_
        refine v_zret h hq dX2_isEntrySign_101 (by decide) (Nat.le_refl _) (Nat.le_refl _) (ret_mi m90 ?_)
        exact ⟨(bi_t (by unfold ESign digit; simp only [Int.reduceEq, if_false, if_true]; rw [← e72]; exact ⟨c85, c93⟩)).symm, rfl⟩
  · obtain rfl : j = 3 := by omega
    have e83 : (5 : Int) + 6 * (q : Int) + 3 = 8 + 6 * (q : Int) := by omega
    refine v_iload_n (n' := 103) h dX2_isEntrySign_102 rfl rfl ?_
    refine v_bipush (n' := 105) h dX2_isEntrySign_103 rfl (by decide) ?_
    refine v_icmp_ne (n' := 108) (tgt := 112) h dX2_isEntrySign_105 rfl rfl (by omega) (by omega) (fun c105 => ?_) (fun c105 => ?_)
    · refine v_iconst (n' := 113) h dX2_isEntrySign_112 rfl ?_
      refine v_zret h hq dX2_isEntrySign_113 (by decide) (Nat.le_refl _) (Nat.le_refl _) (ret_mi hm ?_)
      exact ⟨(bi_f (by unfold ESign; simp only [Int.reduceEq, if_false, if_true]; rw [← e83]; exact c105)).symm, rfl⟩
    · refine v_iconst (n' := 109) h dX2_isEntrySign_108 rfl ?_
      refine v_goto (tgt := 113) h dX2_isEntrySign_109 rfl ?_
      refine v_zret h hq dX2_isEntrySign_113 (by decide) (Nat.le_refl _) (Nat.le_refl _) (ret_mi hm ?_)
      exact ⟨(bi_t (by unfold ESign; simp only [Int.reduceEq, if_false, if_true]; rw [← e83]; exact c105)).symm, rfl⟩
  · obtain rfl : j = 4 := by omega
    refine v_iload_n (n' := 63) h dX2_isEntrySign_62 rfl rfl ?_
    refine v_i2l (n' := 64) h dX2_isEntrySign_63 rfl (by omega) ?_
    refine v_ldc2 (n' := 67) (z := 48) h dX2_isEntrySign_64 rfl q1127 (by decide) ?_
    refine v_ldc2 (n' := 70) (z := 57) h dX2_isEntrySign_67 rfl q1119 (by decide) ?_
    refine vs_callI (n' := 73) h (m_in _ _ _ (by omega) (by omega) (by omega)) (lw_S q1093 q1094 q87 q1095) hdX2_in (by decide) ⟨Nat.zero_le _, Nat.zero_le _⟩ (Nat.le_of_ble_eq_true rfl) dX2_isEntrySign_70 rfl rfl (fun z70 p70 => ?_)
    have p70 := p70.symm
    subst p70
    refine v_zret h hq dX2_isEntrySign_73 (bi_01 _) (Nat.le_refl _) (Nat.le_refl _) (ret_mi hm ?_)
    exact ⟨bi_c (by unfold ESign digit; simp only [Int.reduceEq, if_false, if_true]; rw [show 5 + 6 * (q : Int) + 4 = 9 + 6 * (q : Int) by omega]), rfl⟩
  · obtain rfl : j = 5 := by omega
    have e85 : (5 : Int) + 6 * (q : Int) + 5 = 10 + 6 * (q : Int) := by omega
    refine v_iload_n (n' := 115) h dX2_isEntrySign_114 rfl rfl ?_
    refine v_bipush (n' := 117) h dX2_isEntrySign_115 rfl (by decide) ?_
    refine v_icmp_ne (n' := 120) (tgt := 130) h dX2_isEntrySign_117 rfl rfl (by omega) (by omega) (fun c117 => ?_) (fun c117 => ?_)
    · refine v_iconst (n' := 131) h dX2_isEntrySign_130 rfl ?_
      refine v_zret h hq dX2_isEntrySign_131 (by decide) (Nat.le_refl _) (Nat.le_refl _) (ret_mi hm ?_)
      exact ⟨(bi_f (by unfold ESign; simp only [Int.reduceEq, if_false, if_true]; rw [← e85]; omega)).symm, rfl⟩
    · refine v_iload_n (n' := 121) h dX2_isEntrySign_120 rfl rfl ?_
      refine v_bipush (n' := 123) h dX2_isEntrySign_121 rfl (by decide) ?_
      refine v_icmp_ge (n' := 126) (tgt := 130) h dX2_isEntrySign_123 rfl rfl (by omega) (by omega) (fun c123 => ?_) (fun c123 => ?_)
      · refine v_iconst (n' := 131) h dX2_isEntrySign_130 rfl ?_
        refine v_zret h hq dX2_isEntrySign_131 (by decide) (Nat.le_refl _) (Nat.le_refl _) (ret_mi hm ?_)
        exact ⟨(bi_f (by unfold ESign; simp only [Int.reduceEq, if_false, if_true]; rw [← e85]; omega)).symm, rfl⟩
      · refine v_iconst (n' := 127) h dX2_isEntrySign_126 rfl ?_
        refine v_goto (tgt := 131) h dX2_isEntrySign_127 rfl ?_
        refine v_zret h hq dX2_isEntrySign_131 (by decide) (Nat.le_refl _) (Nat.le_refl _) (ret_mi hm ?_)
        exact ⟨(bi_t (by unfold ESign; simp only [Int.reduceEq, if_false, if_true]; rw [← e85]; omega)).symm, rfl⟩
def Good (g : Int → Int) (k : Int) : Prop := if k = 0 then 50 ≤ g 0 ∧ g 0 ≤ 52 else if k = 1 then isRat (g 0 - 48) (g 1 - 48) else if k = 3 then 49 ≤ g 3 ∧ g 3 ≤ 57 else if k = 2 ∨ k = 4 then g k = 59 else ESign g ((k - 5) / 6).toNat ((k - 5) % 6)
theorem m_isGood (σ : MS) (hg : PgOk σ) (k : Int) (hk : 0 ≤ k ∧ k ≤ 53) : MCi yX2_isGood cX2_isGood 3 (some .boolean) 4 [.int (iI k)] σ (fun z σ' => z = bi (Good (σ.2 0) k) ∧ σ' = σ) := by
  intro ad hok hm
  refine Ct.of (by decide) (EL.c1 rfl (EL.c1 rfl (EL.nn EL.n0))) (fun Γ h hq hnm => ?_)
  have hg0 := hg.1 0
  have hgk := hg.1 k
  refine v_aload_n (n' := 1) h dX2_isGood_0 rfl rfl ?_
  refine vm_geta (n' := 4) h 0 (by decide) q937 dX2_isGood_1 rfl ?_
  refine v_iload_n (n' := 5) h dX2_isGood_4 rfl rfl ?_
  refine vm_iald (n' := 6) h hok hm 0 54 (by decide) dX2_isGood_5 rfl (by omega) (by decide) (fun g5 => ?_)
  refine v_istore2 (n' := 7) h dX2_isGood_6 rfl rfl ?_
  refine v_iload_n (n' := 8) h dX2_isGood_7 rfl rfl ?_
  refine v_table5 (t0 := 44) (t1 := 56) (t2 := 85) (t3 := 73) (t4 := 85) (td := 97) h dX2_isGood_8 (by omega) rfl rfl rfl rfl rfl rfl rfl (fun s8 => ?_) (fun s8 => ?_) (fun s8 => ?_) (fun s8 => ?_) (fun s8 => ?_) (fun s8 => ?_)
  · refine v_iload_n (n' := 45) h dX2_isGood_44 rfl rfl ?_
    refine v_i2l (n' := 46) h dX2_isGood_45 rfl (by omega) ?_
    refine v_ldc2 (n' := 49) (z := 50) h dX2_isGood_46 rfl q1112 (by decide) ?_
    refine v_ldc2 (n' := 52) (z := 52) h dX2_isGood_49 rfl q1113 (by decide) ?_
    refine vs_callI (n' := 55) h (m_in _ _ _ (by omega) (by omega) (by omega)) (lw_S q1093 q1094 q87 q1095) hdX2_in (by decide) ⟨Nat.zero_le _, Nat.zero_le _⟩ (Nat.le_of_ble_eq_true rfl) dX2_isGood_52 rfl rfl (fun z52 p52 => ?_)
    have p52 := p52.symm
    subst p52
    refine v_zret h hq dX2_isGood_55 (bi_01 _) (Nat.le_refl _) (Nat.le_refl _) (ret_mi hm ?_)
    subst s8; exact ⟨bi_c (by unfold Good; rw [if_pos rfl]), rfl⟩
  · refine v_aload_n (n' := 57) h dX2_isGood_56 rfl rfl ?_
    refine vm_geta (n' := 60) h 0 (by decide) q937 dX2_isGood_57 rfl ?_
    refine v_iconst (n' := 61) h dX2_isGood_60 rfl ?_
    refine vm_iald (n' := 62) h hok hm 0 54 (by decide) dX2_isGood_61 rfl (by omega) (by decide) (fun g61 => ?_)
    refine v_bipush (n' := 64) h dX2_isGood_62 rfl (by decide) ?_
    refine v_isub (n' := 65) h dX2_isGood_64 rfl ?_
    refine v_iload_n (n' := 66) h dX2_isGood_65 rfl rfl ?_
    refine v_bipush (n' := 68) h dX2_isGood_66 rfl (by decide) ?_
    refine v_isub (n' := 69) h dX2_isGood_68 rfl ?_
    refine vs_callI (n' := 72) h (m_isRatio _ _ (by omega) (by omega)) (lw_S q1114 q1115 q87 q1116) hdX2_isRatio (by decide) ⟨Nat.zero_le _, Nat.zero_le _⟩ (Nat.le_of_ble_eq_true rfl) dX2_isGood_69 rfl rfl (fun z69 p69 => ?_)
    have p69 := p69.symm
    subst p69
    refine v_zret h hq dX2_isGood_72 (bi_01 _) (Nat.le_refl _) (Nat.le_refl _) (ret_mi hm ?_)
    subst s8; exact ⟨bi_c (by unfold Good; rw [if_neg (by decide), if_pos rfl]), rfl⟩
  · refine v_iload_n (n' := 86) h dX2_isGood_85 rfl rfl ?_
    refine v_bipush (n' := 88) h dX2_isGood_86 rfl (by decide) ?_
    refine v_icmp_ne (n' := 91) (tgt := 95) h dX2_isGood_88 rfl rfl (by omega) (by omega) (fun c88 => ?_) (fun c88 => ?_)
    · refine v_iconst (n' := 96) h dX2_isGood_95 rfl ?_
      refine v_zret h hq dX2_isGood_96 (by decide) (Nat.le_refl _) (Nat.le_refl _) (ret_mi hm ?_)
      subst s8; exact ⟨(bi_f (by unfold Good; rw [if_neg (by decide), if_neg (by decide), if_neg (by decide), if_pos (by decide)]; exact c88)).symm, rfl⟩
    · refine v_iconst (n' := 92) h dX2_isGood_91 rfl ?_
      refine v_goto (tgt := 96) h dX2_isGood_92 rfl ?_
      refine v_zret h hq dX2_isGood_96 (by decide) (Nat.le_refl _) (Nat.le_refl _) (ret_mi hm ?_)
      subst s8; exact ⟨(bi_t (by unfold Good; rw [if_neg (by decide), if_neg (by decide), if_neg (by decide), if_pos (by decide)]; exact c88)).symm, rfl⟩
  · refine v_iload_n (n' := 74) h dX2_isGood_73 rfl rfl ?_
    refine v_i2l (n' := 75) h dX2_isGood_74 rfl (by omega) ?_
    refine v_ldc2 (n' := 78) (z := 49) h dX2_isGood_75 rfl q1118 (by decide) ?_
    refine v_ldc2 (n' := 81) (z := 57) h dX2_isGood_78 rfl q1119 (by decide) ?_
    refine vs_callI (n' := 84) h (m_in _ _ _ (by omega) (by omega) (by omega)) (lw_S q1093 q1094 q87 q1095) hdX2_in (by decide) ⟨Nat.zero_le _, Nat.zero_le _⟩ (Nat.le_of_ble_eq_true rfl) dX2_isGood_81 rfl rfl (fun z81 p81 => ?_)
    have p81 := p81.symm
    subst p81
    refine v_zret h hq dX2_isGood_84 (bi_01 _) (Nat.le_refl _) (Nat.le_refl _) (ret_mi hm ?_)
    subst s8; exact ⟨bi_c (by unfold Good; rw [if_neg (by decide), if_neg (by decide), if_pos rfl]), rfl⟩
  · refine v_iload_n (n' := 86) h dX2_isGood_85 rfl rfl ?_
    refine v_bipush (n' := 88) h dX2_isGood_86 rfl (by decide) ?_
    refine v_icmp_ne (n' := 91) (tgt := 95) h dX2_isGood_88 rfl rfl (by omega) (by omega) (fun c88 => ?_) (fun c88 => ?_)
    · refine v_iconst (n' := 96) h dX2_isGood_95 rfl ?_
      refine v_zret h hq dX2_isGood_96 (by decide) (Nat.le_refl _) (Nat.le_refl _) (ret_mi hm ?_)
      subst s8; exact ⟨(bi_f (by unfold Good; rw [if_neg (by decide), if_neg (by decide), if_neg (by decide), if_pos (by decide)]; exact c88)).symm, rfl⟩
    · refine v_iconst (n' := 92) h dX2_isGood_91 rfl ?_
      refine v_goto (tgt := 96) h dX2_isGood_92 rfl ?_
      refine v_zret h hq dX2_isGood_96 (by decide) (Nat.le_refl _) (Nat.le_refl _) (ret_mi hm ?_)
      subst s8; exact ⟨(bi_t (by unfold Good; rw [if_neg (by decide), if_neg (by decide), if_neg (by decide), if_pos (by decide)]; exact c88)).symm, rfl⟩
  · have e9 : k = 5 + 6 * (((k - 5) / 6).toNat : Int) + (k - 5) % 6 := by omega
    generalize hq9 : ((k - 5) / 6).toNat = q at e9
    generalize hj9 : (k - 5) % 6 = j at e9
    rw [e9]
    refine v_aload_n (n' := 98) h dX2_isGood_97 rfl rfl ?_
    refine v_iload_n (n' := 99) h dX2_isGood_98 rfl rfl ?_
    refine vm_callI (n' := 102) h hok hm (m_isEntrySign _ hg q j (by omega) (by omega)) rfl (lw_V q1120 q1122 qs40 q87 q1123) hdX2_isEntrySign (by decide) ⟨Nat.zero_le _, Nat.zero_le _⟩ (Nat.le_of_ble_eq_true rfl) dX2_isGood_99 rfl rfl (fun z99 s99 p99 m99 => ?_)
    obtain ⟨e99, f99⟩ := p99
    have e99 := e99.symm
    have f99 := f99.symm
    subst e99 f99
    refine v_zret h hq dX2_isGood_102 (bi_01 _) (Nat.le_refl _) (Nat.le_refl _) (ret_mi m99 ?_)
    exact ⟨bi_c (by unfold Good; rw [if_neg (by omega), if_neg (by omega), if_neg (by omega), if_neg (by omega), hq9, hj9]), rfl⟩
/-- the first fault -/
def Flt (g : Int → Int) (n k : Int) : Prop := 0 ≤ k ∧ k ≤ n ∧ (∀ j, 0 ≤ j → j < k → Good g j) ∧ (k < n → ¬ Good g k)
theorem Flt_uniq {g : Int → Int} {n k j : Int} (h1 : Flt g n k) (h2 : Flt g n j) : k = j := by
  obtain ⟨a1, a2, a3, a4⟩ := h1
  obtain ⟨b1, b2, b3, b4⟩ := h2
  rcases Int.lt_trichotomy k j with c | c | c
  · exact absurd (b3 k a1 c) (a4 (by omega))
  · exact c
  · exact absurd (a3 j b1 c) (b4 (by omega))
theorem m_faultOf_loop {Γ : GX} {σ : MS} {ad : Nat → Nat} (hok : AdOk ad) (hm : MR σ) (hg : PgOk σ) (h : Ok0 cX2_faultOf yX2_faultOf.cls (some .int) (rmL 5) Γ) (hq : Rt (PI ad (fun z σ' => Flt (σ.2 0) (σ.1 1) z ∧ σ' = σ)) 0 0 Γ) :
    ∀ (n : Nat) (k : Int), k + (n : Int) = σ.1 1 → 0 ≤ k → (∀ j, 0 ≤ j → j < k → Good (σ.2 0) j) → V Γ 0 0 (mH ad σ) 2 [some (.ref (ad 50)), some (.int (iI k))] [] := by
  intro n
  obtain ⟨hg1, hg2, hg3⟩ := hg
  induction n with
  | zero =>
    intro k hk h0 hG
    refine v_iload_n (n' := 3) h dX2_faultOf_2 rfl rfl ?_
    refine v_aload_n (n' := 4) h dX2_faultOf_3 rfl rfl ?_
    refine vm_geti (n' := 7) h hm 1 (by decide) q938 dX2_faultOf_4 rfl (fun g4 => ?_)
    refine v_icmp_ge (n' := 10) (tgt := 24) h dX2_faultOf_7 rfl rfl (by omega) (by omega) (fun c7 => ?_) (fun c7 => ?_)
    · refine v_iload_n (n' := 25) h dX2_faultOf_24 rfl rfl ?_
      refine v_iret h hq dX2_faultOf_25 (Nat.le_refl _) (Nat.le_refl _) (ret_mi hm ?_)
      exact ⟨⟨h0, by omega, hG, fun z => by omega⟩, rfl⟩
    · exact absurd (show σ.1 1 ≤ k by omega) c7
  | succ n ih =>
    intro k hk h0 hG
    refine v_iload_n (n' := 3) h dX2_faultOf_2 rfl rfl ?_
    refine v_aload_n (n' := 4) h dX2_faultOf_3 rfl rfl ?_
    refine vm_geti (n' := 7) h hm 1 (by decide) q938 dX2_faultOf_4 rfl (fun g4 => ?_)
    refine v_icmp_ge (n' := 10) (tgt := 24) h dX2_faultOf_7 rfl rfl (by omega) (by omega) (fun c7 => ?_) (fun c7 => ?_)
    · exact absurd c7 (by omega)
    · refine v_aload_n (n' := 11) h dX2_faultOf_10 rfl rfl ?_
      refine v_iload_n (n' := 12) h dX2_faultOf_11 rfl rfl ?_
      refine vm_callI (n' := 15) h hok hm (m_isGood _ ⟨hg1, hg2, hg3⟩ _ (by omega)) rfl (lw_V q1108 q1110 qs39 q87 q1111) hdX2_isGood (by decide) ⟨Nat.zero_le _, Nat.zero_le _⟩ (Nat.le_of_ble_eq_true rfl) dX2_faultOf_12 rfl rfl (fun z12 s12 p12 m12 => ?_)
      obtain ⟨e12, f12⟩ := p12
      have e12 := e12.symm
      have f12 := f12.symm
      subst e12 f12
      refine v_bif_eq (n' := 18) (tgt := 24) h dX2_faultOf_15 rfl rfl (fun c15 => ?_) (fun c15 => ?_)
      · refine v_iload_n (n' := 25) h dX2_faultOf_24 rfl rfl ?_
        refine v_iret h hq dX2_faultOf_25 (Nat.le_refl _) (Nat.le_refl _) (ret_mi m12 ?_)
        exact ⟨⟨h0, by omega, hG, fun _ => c15⟩, rfl⟩
      · refine v_iinc1 (n' := 21) h dX2_faultOf_18 rfl rfl ?_
        refine v_goto (tgt := 2) h dX2_faultOf_21 rfl ?_
        refine ih (k + 1) (by omega) (by omega) (fun j j0 j1 => ?_)
        by_cases e : j = k
        · rw [e]; exact c15
        · exact hG j j0 (by omega)
theorem m_faultOf (σ : MS) (hg : PgOk σ) : MCi yX2_faultOf cX2_faultOf 2 (some .int) 5 [] σ (fun z σ' => Flt (σ.2 0) (σ.1 1) z ∧ σ' = σ) := by
  intro ad hok hm
  refine Ct.of (by decide) (EL.c1 rfl (EL.nn EL.n0)) (fun Γ h hq hnm => ?_)
  have lp := m_faultOf_loop hok hm hg h hq (σ.1 1).toNat 0 (by have := hg.2.1; omega) (by omega) (fun j _ _ => by omega)
  refine v_iconst (n' := 1) h dX2_faultOf_0 rfl ?_
  refine v_istore1 (n' := 2) h dX2_faultOf_1 rfl rfl ?_
  exact lp
theorem m_fault (σ : MS) (hg : PgOk σ) : MCi yX2_fault cX2_fault 1 (some .int) 6 [] σ (fun z σ' => Flt (σ.2 0) (σ.1 1) z ∧ σ' = σ) := by
  intro ad hok hm
  refine Ct.of (by decide) (EL.c1 rfl EL.n0) (fun Γ h hq hnm => ?_)
  refine v_aload_n (n' := 1) h dX2_fault_0 rfl rfl ?_
  refine vm_callI (n' := 4) h hok hm (m_faultOf _ hg) rfl (lw_V q1104 q1106 qs38 q87 q1107) hdX2_faultOf (by decide) ⟨Nat.zero_le _, Nat.zero_le _⟩ (Nat.le_of_ble_eq_true rfl) dX2_fault_1 rfl rfl (fun z1 s1 p1 m1 => ?_)
  refine v_iret h hq dX2_fault_4 (Nat.le_refl _) (Nat.le_refl _) (ret_mi m1 ?_)
  exact p1
