/-! MODEL 11: ledger, counts, sights, letters -/
set_option maxRecDepth 100000
theorem v_table6 {Γ : GX} {k n : Nat} {hp : AH} {pc : Nat} {L : List (Option Value)} {st : List Value} {cc : ByteArray} {own : String} {ret : Option FieldType} {R : Room} {x df : Int} {o0 o1 o2 o3 o4 o5 : Int} {t0 t1 t2 t3 t4 t5 td len : Nat} (h : Ok0 cc own ret R Γ) (d : decode cc pc = .ok (.tableswitch df 0 5 #[o0, o1, o2, o3, o4, o5], len)) (hx : -2147483648 ≤ x ∧ x ≤ 2147483647) (_ : True = True) (h0 : (pc : Int) + o0 = (t0 : Int)) (h1 : (pc : Int) + o1 = (t1 : Int)) (h2 : (pc : Int) + o2 = (t2 : Int)) (h3 : (pc : Int) + o3 = (t3 : Int)) (h4 : (pc : Int) + o4 = (t4 : Int)) (h5 : (pc : Int) + o5 = (t5 : Int)) (hd : (pc : Int) + df = (td : Int)) (k0 : x = 0 → V Γ k n hp t0 L st) (k1 : x = 1 → V Γ k n hp t1 L st) (k2 : x = 2 → V Γ k n hp t2 L st) (k3 : x = 3 → V Γ k n hp t3 L st) (k4 : x = 4 → V Γ k n hp t4 L st) (k5 : x = 5 → V Γ k n hp t5 L st) (kd : x < 0 ∨ 5 < x → V Γ k n hp td L st) : V Γ k n hp pc L (.int (iI x) :: st) := by
  by_cases c : x < 0 ∨ 5 < x
  · exact v_tableOut h d hx c hd (kd c)
  · have hc : x = 0 ∨ x = 1 ∨ x = 2 ∨ x = 3 ∨ x = 4 ∨ x = 5 := by omega
    rcases hc with rfl | rfl | rfl | rfl | rfl | rfl
    · exact v_tableIn (off := o0) h d hx (by omega) (by omega) rfl h0 (k0 rfl)
    · exact v_tableIn (off := o1) h d hx (by omega) (by omega) rfl h1 (k1 rfl)
    · exact v_tableIn (off := o2) h d hx (by omega) (by omega) rfl h2 (k2 rfl)
    · exact v_tableIn (off := o3) h d hx (by omega) (by omega) rfl h3 (k3 rfl)
    · exact v_tableIn (off := o4) h d hx (by omega) (by omega) rfl h4 (k4 rfl)
    · exact v_tableIn (off := o5) h d hx (by omega) (by omega) rfl h5 (k5 rfl)

def ledg (a b : Int) (te : Tre) (what : Int) : Int := if what = 0 then th te.1 else if what = 1 then (lim a b (tz te.1 : Int) : Int) else if what = 2 then te.2.1 else if what = 3 then 100000 + te.2.2.2.2.1 else if what = 4 then 100000 + te.2.2.2.2.2 else if what = 5 then te.2.2.1 else te.2.2.2.1
def oLedger (s : SS) (what : Int) : Int := if ¬ (0 ≤ what ∧ what ≤ 6) then -102 else if sSh s = 0 then -103 else ledg (sA s) (sB s) (sC s).1 what
theorem m_ledgerOf (σ : MS) (s : SS) (n : Int) (hR : MRel σ s) (hI : SInv s n) (h0 : ¬ sSh s = 0) (what : Int) (hw : 0 ≤ what ∧ what ≤ 6) : MCi yX2_ledgerOf cX2_ledgerOf 2 (some .int) 3 [.int (iI what)] σ (fun z σ' => z = ledg (sA s) (sB s) (sC s).1 what ∧ σ' = σ) := by
  intro ad hok hm
  obtain ⟨u1, u7, u8, u10, u11, um⟩ := hR.2.2.2.2.2.2.1.1
  have um0 := um rfl
  have e1 := congrArg Prod.fst um0
  have e2 := congrArg Prod.snd um0
  dsimp only at e1 e2
  have hz := hI.2.2.2.2.1.2.2.1
  have hrat := hI.rat h0
  refine Ct.of (by decide) (EL.c1 rfl (EL.c1 rfl EL.n0)) (fun Γ h hq hnm => ?_)
  refine v_iload_n (n' := 1) h dX2_ledgerOf_0 rfl rfl ?_
  refine v_table6 (t0 := 40) (t1 := 46) (t2 := 58) (t3 := 65) (t4 := 74) (t5 := 83) (td := 90) h dX2_ledgerOf_1 (by omega) rfl rfl rfl rfl rfl rfl rfl rfl (fun s1 => ?_) (fun s1 => ?_) (fun s1 => ?_) (fun s1 => ?_) (fun s1 => ?_) (fun s1 => ?_) (fun s1 => ?_)
  · refine v_aload_n (n' := 41) h dX2_ledgerOf_40 rfl rfl ?_
    refine v_iconst (n' := 42) h dX2_ledgerOf_41 rfl ?_
    refine vm_callI (n' := 45) h hok hm (m_tall _ _ (Or.inl rfl) _ u1) rfl (lw_V q1284 q1286 qs69 q87 q1287) hdX2_tall (by decide) ⟨Nat.zero_le _, Nat.zero_le _⟩ (Nat.le_of_ble_eq_true rfl) dX2_ledgerOf_42 rfl rfl (fun z42 s42 p42 m42 => ?_)
    obtain ⟨ez42, fz42⟩ := p42
    have ez42 := ez42.symm
    have fz42 := fz42.symm
    subst ez42 fz42
    refine v_iret h hq dX2_ledgerOf_45 (Nat.le_refl _) (Nat.le_refl _) (ret_mi m42 ?_)
    subst s1; exact ⟨rfl, rfl⟩
  · refine v_aload_n (n' := 47) h dX2_ledgerOf_46 rfl rfl ?_
    refine v_iconst (n' := 48) h dX2_ledgerOf_47 rfl ?_
    refine v_aload_n (n' := 49) h dX2_ledgerOf_48 rfl rfl ?_
    refine vm_geta (n' := 52) h 7 (by decide) q944 dX2_ledgerOf_49 rfl ?_
    refine v_iconst (n' := 53) h dX2_ledgerOf_52 rfl ?_
    refine vm_iald (n' := 54) h hok hm 7 2 (by decide) dX2_ledgerOf_53 rfl (by omega) (by decide) (fun g53 => ?_)
    rw [u7] at g53 ⊢
    refine vm_callI (n' := 57) h hok hm (m_limit _ _ _ (sA s) (sB s) (Or.inl rfl) (by rw [if_pos rfl]; exact hR.2.2.2.1) (by rw [if_pos rfl]; exact hR.2.2.2.2.1) hrat.1 (by omega)) rfl (lw_V q1168 q1170 qs50 q87 q1171) hdX2_limit (by decide) ⟨Nat.zero_le _, Nat.zero_le _⟩ (Nat.le_of_ble_eq_true rfl) dX2_ledgerOf_54 rfl rfl (fun z54 s54 p54 m54 => ?_)
    obtain ⟨ez54, fz54⟩ := p54
    have ez54 := ez54.symm
    have fz54 := fz54.symm
    subst ez54 fz54
    refine v_iret h hq dX2_ledgerOf_57 (Nat.le_refl _) (Nat.le_refl _) (ret_mi m54 ?_)
    subst s1; exact ⟨rfl, rfl⟩
  · refine v_aload_n (n' := 59) h dX2_ledgerOf_58 rfl rfl ?_
    refine vm_geta (n' := 62) h 8 (by decide) q945 dX2_ledgerOf_59 rfl ?_
    refine v_iconst (n' := 63) h dX2_ledgerOf_62 rfl ?_
    refine vm_iald (n' := 64) h hok hm 8 2 (by decide) dX2_ledgerOf_63 rfl (by omega) (by decide) (fun g63 => ?_)
    refine v_iret h hq dX2_ledgerOf_64 (Nat.le_refl _) (Nat.le_refl _) (ret_mi hm ?_)
    subst s1; exact ⟨u8, rfl⟩
  · refine v_ldcw (n' := 68) (z := 100000) h dX2_ledgerOf_65 rfl q1288 (by decide) ?_
    refine v_aload_n (n' := 69) h dX2_ledgerOf_68 rfl rfl ?_
    refine vm_geti (n' := 72) h hm 19 (by decide) q956 dX2_ledgerOf_69 rfl (fun g69 => ?_)
    refine v_iadd (n' := 73) h dX2_ledgerOf_72 rfl ?_
    refine v_iret h hq dX2_ledgerOf_73 (Nat.le_refl _) (Nat.le_refl _) (ret_mi hm ?_)
    subst s1; exact ⟨by rw [e1]; rfl, rfl⟩
  · refine v_ldcw (n' := 77) (z := 100000) h dX2_ledgerOf_74 rfl q1288 (by decide) ?_
    refine v_aload_n (n' := 78) h dX2_ledgerOf_77 rfl rfl ?_
    refine vm_geti (n' := 81) h hm 20 (by decide) q957 dX2_ledgerOf_78 rfl (fun g78 => ?_)
    refine v_iadd (n' := 82) h dX2_ledgerOf_81 rfl ?_
    refine v_iret h hq dX2_ledgerOf_82 (Nat.le_refl _) (Nat.le_refl _) (ret_mi hm ?_)
    subst s1; exact ⟨by rw [e2]; rfl, rfl⟩
  · refine v_aload_n (n' := 84) h dX2_ledgerOf_83 rfl rfl ?_
    refine vm_geta (n' := 87) h 10 (by decide) q947 dX2_ledgerOf_84 rfl ?_
    refine v_iconst (n' := 88) h dX2_ledgerOf_87 rfl ?_
    refine vm_iald (n' := 89) h hok hm 10 2 (by decide) dX2_ledgerOf_88 rfl (by omega) (by decide) (fun g88 => ?_)
    refine v_iret h hq dX2_ledgerOf_89 (Nat.le_refl _) (Nat.le_refl _) (ret_mi hm ?_)
    subst s1; exact ⟨u10, rfl⟩
  · refine v_aload_n (n' := 91) h dX2_ledgerOf_90 rfl rfl ?_
    refine vm_geta (n' := 94) h 11 (by decide) q948 dX2_ledgerOf_91 rfl ?_
    refine v_iconst (n' := 95) h dX2_ledgerOf_94 rfl ?_
    refine vm_iald (n' := 96) h hok hm 11 2 (by decide) dX2_ledgerOf_95 rfl (by omega) (by decide) (fun g95 => ?_)
    refine v_iret h hq dX2_ledgerOf_96 (Nat.le_refl _) (Nat.le_refl _) (ret_mi hm ?_)
    obtain rfl : what = 6 := by omega
    exact ⟨u11, rfl⟩
theorem m_ledger (σ : MS) (s : SS) (n : Int) (hR : MRel σ s) (hI : SInv s n) (what : Int) (hw : -2147483648 ≤ what ∧ what ≤ 2147483647) : MCi yX2_ledger cX2_ledger 2 (some .int) 4 [.int (iI what)] σ (fun z σ' => z = oLedger s what ∧ σ' = σ) := by
  intro ad hok hm
  refine Ct.of (by decide) (EL.c1 rfl (EL.c1 rfl EL.n0)) (fun Γ h hq hnm => ?_)
  refine v_iload_n (n' := 1) h dX2_ledger_0 rfl rfl ?_
  refine v_i2l (n' := 2) h dX2_ledger_1 rfl (by omega) ?_
  refine v_lconst (n' := 3) (y := 0) h dX2_ledger_2 rfl rfl ?_
  refine v_ldc2 (n' := 6) (z := 6) h dX2_ledger_3 rfl q1279 (by decide) ?_
  refine vs_callI (n' := 9) h (m_in _ _ _ (by omega) (by omega) (by omega)) (lw_S q1093 q1094 q87 q1095) hdX2_in (by decide) ⟨Nat.zero_le _, Nat.zero_le _⟩ (Nat.le_of_ble_eq_true rfl) dX2_ledger_6 rfl rfl (fun z6 p6 => ?_)
  have p6 := p6.symm
  subst p6
  refine v_bif_ne (n' := 12) (tgt := 15) h dX2_ledger_9 rfl rfl (fun c9 => ?_) (fun c9 => ?_)
  · refine v_aload_n (n' := 16) h dX2_ledger_15 rfl rfl ?_
    refine vm_callI (n' := 19) h hok hm (m_lacks _ _ _ hR hI) rfl (lw_V q1216 q1218 qs61 q87 q1219) hdX2_lacks (by decide) ⟨Nat.zero_le _, Nat.zero_le _⟩ (Nat.le_of_ble_eq_true rfl) dX2_ledger_16 rfl rfl (fun z16 s16 p16 m16 => ?_)
    obtain ⟨ez16, fz16⟩ := p16
    have ez16 := ez16.symm
    have fz16 := fz16.symm
    subst ez16 fz16
    refine v_bif_eq (n' := 22) (tgt := 27) h dX2_ledger_19 rfl rfl (fun c19 => ?_) (fun c19 => ?_)
    · refine v_aload_n (n' := 28) h dX2_ledger_27 rfl rfl ?_
      refine v_iload_n (n' := 29) h dX2_ledger_28 rfl rfl ?_
      refine vm_callI (n' := 32) h hok m16 (m_ledgerOf _ _ _ hR hI c19 what c9) rfl (lw_V q1280 q1282 qs68 q87 q1283) hdX2_ledgerOf (by decide) ⟨Nat.zero_le _, Nat.zero_le _⟩ (Nat.le_of_ble_eq_true rfl) dX2_ledger_29 rfl rfl (fun z29 s29 p29 m29 => ?_)
      obtain ⟨ez29, fz29⟩ := p29
      have ez29 := ez29.symm
      have fz29 := fz29.symm
      subst ez29 fz29
      refine v_iret h hq dX2_ledger_32 (Nat.le_refl _) (Nat.le_refl _) (ret_mi m29 ?_)
      exact ⟨by unfold oLedger; rw [if_neg (fun z => z c9), if_neg c19], rfl⟩
    · refine v_bipush (n' := 24) h dX2_ledger_22 rfl (by decide) ?_
      refine v_goto (tgt := 32) h dX2_ledger_24 rfl ?_
      refine v_iret h hq dX2_ledger_32 (Nat.le_refl _) (Nat.le_refl _) (ret_mi m16 ?_)
      exact ⟨by unfold oLedger; rw [if_neg (fun z => z c9), if_pos c19], rfl⟩
  · refine v_bipush (n' := 14) h dX2_ledger_12 rfl (by decide) ?_
    refine v_iret h hq dX2_ledger_14 (Nat.le_refl _) (Nat.le_refl _) (ret_mi hm ?_)
    exact ⟨by unfold oLedger; rw [if_pos c9], rfl⟩
def oCount (s : SS) (what : Int) : Int := if what = 0 then (tz (sC s).1.1 : Int) else if what = 1 then sA s else if what = 2 then sB s else if what = 3 then sF s else if what = 4 then ((sC s).2.2.2.1.length : Int) else if what = 5 then ((sC s).2.2.2.2.length : Int) else if what = 6 then sPn s else if what = 7 then sSh s else -102
theorem m_countOf (σ : MS) (s : SS) (hR : MRel σ s) (what : Int) (hw : -2147483648 ≤ what ∧ what ≤ 2147483647) : MCi yX2_countOf cX2_countOf 2 (some .int) 1 [.int (iI what)] σ (fun z σ' => z = oCount s what ∧ σ' = σ) := by
  intro ad hok hm
  obtain ⟨g0, g1, g2, g3, g4, g5, ⟨r1, r2, r3, r4⟩, g7, g8⟩ := hR
  refine Ct.of (by decide) (EL.c1 rfl (EL.c1 rfl EL.n0)) (fun Γ h hq hnm => ?_)
  refine v_iload_n (n' := 1) h dX2_countOf_0 rfl rfl ?_
  refine v_table8 (t0 := 48) (t1 := 55) (t2 := 60) (t3 := 65) (t4 := 70) (t5 := 75) (t6 := 80) (t7 := 85) (td := 90) h dX2_countOf_1 (by omega) rfl rfl rfl rfl rfl rfl rfl rfl rfl rfl (fun s1 => ?_) (fun s1 => ?_) (fun s1 => ?_) (fun s1 => ?_) (fun s1 => ?_) (fun s1 => ?_) (fun s1 => ?_) (fun s1 => ?_) (fun s1 => ?_)
  · refine v_aload_n (n' := 49) h dX2_countOf_48 rfl rfl ?_
    refine vm_geta (n' := 52) h 7 (by decide) q944 dX2_countOf_49 rfl ?_
    refine v_iconst (n' := 53) h dX2_countOf_52 rfl ?_
    refine vm_iald (n' := 54) h hok hm 7 2 (by decide) dX2_countOf_53 rfl (by omega) (by decide) (fun g53 => ?_)
    refine v_iret h hq dX2_countOf_54 (Nat.le_refl _) (Nat.le_refl _) (ret_mi hm ?_)
    subst s1; exact ⟨r1.2.1, rfl⟩
  · refine v_aload_n (n' := 56) h dX2_countOf_55 rfl rfl ?_
    refine vm_geti (n' := 59) h hm 14 (by decide) q951 dX2_countOf_56 rfl (fun g56 => ?_)
    refine v_iret h hq dX2_countOf_59 (Nat.le_refl _) (Nat.le_refl _) (ret_mi hm ?_)
    subst s1; exact ⟨g3, rfl⟩
  · refine v_aload_n (n' := 61) h dX2_countOf_60 rfl rfl ?_
    refine vm_geti (n' := 64) h hm 15 (by decide) q952 dX2_countOf_61 rfl (fun g61 => ?_)
    refine v_iret h hq dX2_countOf_64 (Nat.le_refl _) (Nat.le_refl _) (ret_mi hm ?_)
    subst s1; exact ⟨g4, rfl⟩
  · refine v_aload_n (n' := 66) h dX2_countOf_65 rfl rfl ?_
    refine vm_geti (n' := 69) h hm 18 (by decide) q955 dX2_countOf_66 rfl (fun g66 => ?_)
    refine v_iret h hq dX2_countOf_69 (Nat.le_refl _) (Nat.le_refl _) (ret_mi hm ?_)
    subst s1; exact ⟨g5, rfl⟩
  · refine v_aload_n (n' := 71) h dX2_countOf_70 rfl rfl ?_
    refine vm_geti (n' := 74) h hm 22 (by decide) q959 dX2_countOf_71 rfl (fun g71 => ?_)
    refine v_iret h hq dX2_countOf_74 (Nat.le_refl _) (Nat.le_refl _) (ret_mi hm ?_)
    subst s1; exact ⟨r3.1, rfl⟩
  · refine v_aload_n (n' := 76) h dX2_countOf_75 rfl rfl ?_
    refine vm_geti (n' := 79) h hm 28 (by decide) q965 dX2_countOf_76 rfl (fun g76 => ?_)
    refine v_iret h hq dX2_countOf_79 (Nat.le_refl _) (Nat.le_refl _) (ret_mi hm ?_)
    subst s1; exact ⟨r4.1, rfl⟩
  · refine v_aload_n (n' := 81) h dX2_countOf_80 rfl rfl ?_
    refine vm_geti (n' := 84) h hm 1 (by decide) q938 dX2_countOf_81 rfl (fun g81 => ?_)
    refine v_iret h hq dX2_countOf_84 (Nat.le_refl _) (Nat.le_refl _) (ret_mi hm ?_)
    subst s1; exact ⟨g1, rfl⟩
  · refine v_aload_n (n' := 86) h dX2_countOf_85 rfl rfl ?_
    refine vm_geti (n' := 89) h hm 23 (by decide) q960 dX2_countOf_86 rfl (fun g86 => ?_)
    refine v_iret h hq dX2_countOf_89 (Nat.le_refl _) (Nat.le_refl _) (ret_mi hm ?_)
    subst s1; exact ⟨g2, rfl⟩
  · refine v_bipush (n' := 92) h dX2_countOf_90 rfl (by decide) ?_
    refine v_iret h hq dX2_countOf_92 (Nat.le_refl _) (Nat.le_refl _) (ret_mi hm ?_)
    refine ⟨?_, rfl⟩
    unfold oCount
    rw [if_neg (by omega), if_neg (by omega), if_neg (by omega), if_neg (by omega), if_neg (by omega), if_neg (by omega), if_neg (by omega), if_neg (by omega)]
theorem m_count (σ : MS) (s : SS) (hR : MRel σ s) (what : Int) (hw : -2147483648 ≤ what ∧ what ≤ 2147483647) : MCi yX2_count cX2_count 2 (some .int) 2 [.int (iI what)] σ (fun z σ' => z = oCount s what ∧ σ' = σ) := by
  intro ad hok hm
  refine Ct.of (by decide) (EL.c1 rfl (EL.c1 rfl EL.n0)) (fun Γ h hq hnm => ?_)
  refine v_aload_n (n' := 1) h dX2_count_0 rfl rfl ?_
  refine v_iload_n (n' := 2) h dX2_count_1 rfl rfl ?_
  refine vm_callI (n' := 5) h hok hm (m_countOf _ _ hR what hw) rfl (lw_V q1381 q1383 qs78 q87 q1384) hdX2_countOf (by decide) ⟨Nat.zero_le _, Nat.zero_le _⟩ (Nat.le_of_ble_eq_true rfl) dX2_count_2 rfl rfl (fun z2 s2 p2 m2 => ?_)
  obtain ⟨ez2, fz2⟩ := p2
  have ez2 := ez2.symm
  have fz2 := fz2.symm
  subst ez2 fz2
  refine v_iret h hq dX2_count_5 (Nat.le_refl _) (Nat.le_refl _) (ret_mi m2 ?_)
  exact ⟨rfl, rfl⟩
/-! letters -/
def setPg (s : SS) (g : Int → Int) (n : Int) : SS := (g, n, s.2.2)
theorem PgOk_of {σ : MS} {s : SS} {n : Int} (hR : MRel σ s) (hI : SInv s n) : PgOk σ := ⟨fun i => by rw [hR.1]; exact hI.1 i, by rw [hR.2.1]; exact hI.2.1⟩
def oLetter (s : SS) (c : Int) : Int × SS := if ¬ (1 ≤ c ∧ c ≤ 126) then (-102, s) else if sPn s = 54 then (-104, s) else (sPn s + 1, setPg s (fun i => if i = sPn s then c else sPg s i) (sPn s + 1))
theorem MRel.pg {σ σ' : MS} {s : SS} {g : Int → Int} {n : Int} (h : MRel σ s) (e1 : ∀ f, f ≠ 1 → σ'.1 f = σ.1 f) (e2 : ∀ f i, f ≠ 0 → σ'.2 f i = σ.2 f i) (hg : ∀ i, σ'.2 0 i = g i) (hn : σ'.1 1 = n) : MRel σ' (setPg s g n) := by
  obtain ⟨h0, h1, h2, h3, h4, h5, h6, h7, h8⟩ := h
  exact ⟨hg, hn, by rw [e1 23 (by decide)]; exact h2, by rw [e1 14 (by decide)]; exact h3, by rw [e1 15 (by decide)]; exact h4, by rw [e1 18 (by decide)]; exact h5, h6.cg (fun f i a => e2 f i (by omega)) (fun f a => e1 f (by omega)), by rw [e1 31 (by decide)]; exact h7, fun z => ksh_cg (h8 z) (fun f i a => e2 f i (by omega)) (fun f a => e1 f (by omega))⟩
theorem m_letterS (σ : MS) (s : SS) (n : Int) (hR : MRel σ s) (hI : SInv s n) (c : Int) (hc : -2147483648 ≤ c ∧ c ≤ 2147483647) : MCi yX2_letter cX2_letter 2 (some .int) 2 [.int (iI c)] σ (fun z σ' => z = (oLetter s c).1 ∧ MRel σ' (oLetter s c).2) := by
  refine (m_letter σ c hc (PgOk_of hR hI)).mono ?_
  rintro z σ' ⟨rfl, rfl⟩
  have e1 := hR.2.1
  unfold letterR letterS oLetter
  by_cases c1 : ¬ (1 ≤ c ∧ c ≤ 126)
  · rw [if_pos c1, if_pos c1, if_pos c1]; exact ⟨rfl, hR⟩
  · rw [if_neg c1, if_neg c1, if_neg c1, e1]
    by_cases c2 : sPn s = 54
    · rw [if_pos c2, if_pos c2, if_pos c2]; exact ⟨rfl, hR⟩
    · rw [if_neg c2, if_neg c2, if_neg c2]
      refine ⟨rfl, hR.pg (fun f hf => by rw [setI_1n hf]; rfl) (fun f i hf => by rw [setI_2, setA_2o hf]) (fun i => ?_) setI_1s⟩
      rw [setI_2, setA_2]
      by_cases c3 : i = sPn s
      · rw [if_pos ⟨rfl, c3⟩, if_pos c3]
      · rw [if_neg (fun z => c3 z.2), if_neg c3]; exact hR.1 i
def oBlank (s : SS) : Int × SS := (sPn s, setPg s (sPg s) 0)
theorem m_blankS (σ : MS) (s : SS) (hR : MRel σ s) : MCi yX2_blank cX2_blank 2 (some .int) 1 [] σ (fun z σ' => z = (oBlank s).1 ∧ MRel σ' (oBlank s).2) := by
  refine (m_blank σ).mono ?_
  rintro z σ' ⟨rfl, rfl⟩
  exact ⟨hR.2.1, hR.pg (fun f hf => setI_1n hf) (fun f i _ => rfl) hR.1 setI_1s⟩
theorem m_faultS (σ : MS) (s : SS) (n : Int) (hR : MRel σ s) (hI : SInv s n) : MCi yX2_fault cX2_fault 1 (some .int) 6 [] σ (fun z σ' => Flt (sPg s) (sPn s) z ∧ MRel σ' s) := by
  refine (m_fault σ (PgOk_of hR hI)).mono ?_
  rintro z σ' ⟨h, rfl⟩
  have e : σ'.2 0 = sPg s := funext hR.1
  rw [e, hR.2.1] at h
  exact ⟨h, hR⟩
/-! sights -/
def oSee (s : SS) (key what could : Int) : Int × SS := if ¬ ((0 ≤ key ∧ key ≤ 99) ∧ (0 ≤ what ∧ what ≤ 3)) then (-102, s) else if sSh s = 0 then (-103, s) else if (sC s).2.2.2.2.length = 6 then (-104, s) else (((sC s).2.2.2.2.length : Int) + 1, setC s ((sC s).1, (sC s).2.1, (sC s).2.2.1, (sC s).2.2.2.1, (sC s).2.2.2.2 ++ [(key, what, could)]))
def oForget (s : SS) : Int × SS := (((sC s).2.2.2.2.length : Int), setC s ((sC s).1, (sC s).2.1, (sC s).2.2.1, (sC s).2.2.2.1, []))
theorem MRel.seen {σ σ' : MS} {s : SS} {sn : List (Int × Int × Int)} (h : MRel σ s) (e1 : ∀ f, f ≠ 28 → σ'.1 f = σ.1 f) (e2 : ∀ f i, f ≠ 29 → σ'.2 f i = σ.2 f i) (hg : SeenR σ' sn) : MRel σ' (setC s ((sC s).1, (sC s).2.1, (sC s).2.2.1, (sC s).2.2.2.1, sn)) := by
  obtain ⟨h0, h1, h2, h3, h4, h5, ⟨r1, r2, r3, r4⟩, h7, h8⟩ := h
  exact ⟨fun i => by rw [e2 0 i (by decide)]; exact h0 i, by rw [e1 1 (by decide)]; exact h1, by rw [e1 23 (by decide)]; exact h2, by rw [e1 14 (by decide)]; exact h3, by rw [e1 15 (by decide)]; exact h4, by rw [e1 18 (by decide)]; exact h5, ⟨r1.cg (fun f i a => e2 f i (by omega)) (fun _ => ⟨e1 19 (by decide), e1 20 (by decide)⟩), r2.cg (fun f i a => e2 f i (by omega)), r3.cg (fun i => e2 21 i (by decide)) (e1 22 (by decide)), hg⟩, by rw [e1 31 (by decide)]; exact h7, fun z => ksh_cg (h8 z) (fun f i a => e2 f i (by omega)) (fun f a => e1 f (by omega))⟩
theorem m_forget (σ : MS) (s : SS) (hR : MRel σ s) : MCi yX2_forget cX2_forget 2 (some .int) 1 [] σ (fun z σ' => z = (oForget s).1 ∧ MRel σ' (oForget s).2) := by
  intro ad hok hm
  refine Ct.of (by decide) (EL.c1 rfl (EL.nn EL.n0)) (fun Γ h hq hnm => ?_)
  refine v_aload_n (n' := 1) h dX2_forget_0 rfl rfl ?_
  refine vm_geti (n' := 4) h hm 28 (by decide) q965 dX2_forget_1 rfl (fun g1 => ?_)
  refine v_istore1 (n' := 5) h dX2_forget_4 rfl rfl ?_
  refine v_aload_n (n' := 6) h dX2_forget_5 rfl rfl ?_
  refine v_iconst (n' := 7) h dX2_forget_6 rfl ?_
  refine vm_puti (n' := 10) h hm 28 (by decide) q965 dX2_forget_7 rfl (by omega) (fun m7 => ?_)
  refine v_iload_n (n' := 11) h dX2_forget_10 rfl rfl ?_
  refine v_iret h hq dX2_forget_11 (Nat.le_refl _) (Nat.le_refl _) (ret_mi m7 ?_)
  exact ⟨hR.2.2.2.2.2.2.1.2.2.2.1, hR.seen (fun f hf => setI_1n hf) (fun _ _ _ => rfl) ⟨setI_1s, by simp, fun i hi => by simp at hi⟩⟩
theorem seen_add {σ : MS} {sn : List (Int × Int × Int)} {a b c : Int} (h : SeenR σ sn) (h6 : sn.length < 6) : SeenR (setI (setA (setA (setA σ 29 (3 * (sn.length : Int)) a) 29 (3 * (sn.length : Int) + 1) b) 29 (3 * (sn.length : Int) + 2) c) 28 ((sn.length : Int) + 1)) (sn ++ [(a, b, c)]) := by
  obtain ⟨h1, h2, h3⟩ := h
  refine ⟨by rw [setI_1s]; simp, by simp; omega, fun i hi => ?_⟩
  rw [setI_2, setA_2, setA_2, setA_2, setA_2, setA_2, setA_2, setA_2, setA_2, setA_2]
  by_cases e : i = sn.length
  · subst e
    have g : (sn ++ [(a, b, c)]).getD sn.length (0, 0, 0) = (a, b, c) := by simp
    rw [g]
    refine ⟨?_, ?_, ?_⟩
    · rw [if_neg (by omega), if_neg (by omega), if_pos ⟨rfl, rfl⟩]
    · rw [if_neg (by omega), if_pos ⟨rfl, rfl⟩]
    · rw [if_pos ⟨rfl, rfl⟩]
  · have hi2 : i < sn.length := by simp at hi; omega
    have g : (sn ++ [(a, b, c)]).getD i (0, 0, 0) = sn.getD i (0, 0, 0) := by simp [List.getD, List.getElem?_append_left hi2]
    rw [g]
    obtain ⟨x1, x2, x3⟩ := h3 i hi2
    refine ⟨?_, ?_, ?_⟩
    · rw [if_neg (by omega), if_neg (by omega), if_neg (by omega)]; exact x1
    · rw [if_neg (by omega), if_neg (by omega), if_neg (by omega)]; exact x2
    · rw [if_neg (by omega), if_neg (by omega), if_neg (by omega)]; exact x3
theorem m_see (σ : MS) (s : SS) (n : Int) (hR : MRel σ s) (hI : SInv s n) (key what could : Int) (h1 : -2147483648 ≤ key ∧ key ≤ 2147483647) (h2 : -2147483648 ≤ what ∧ what ≤ 2147483647) (h3 : could = 0 ∨ could = 1) : MCi yX2_see cX2_see 4 (some .int) 2 [.int (iI key), .int (iI what), .int (iI could)] σ (fun z σ' => z = (oSee s key what could).1 ∧ MRel σ' (oSee s key what could).2) := by
  intro ad hok hm
  have h4 := hR.2.2.2.2.2.2.1.2.2.2
  have e28 := h4.1
  have l6 := h4.2.1
  refine Ct.of (by decide) (EL.c1 rfl (EL.c1 rfl (EL.c1 rfl (EL.c1 rfl EL.n0)))) (fun Γ h hq hnm => ?_)
  have fin : ∀ c', c' = could → (sC s).2.2.2.2.length ≠ 6 → ((0 ≤ key ∧ key ≤ 99) ∧ (0 ≤ what ∧ what ≤ 3)) → ¬ sSh s = 0 → (σ.1 28 + 1 = (oSee s key what could).1 ∧ MRel (setI (setA (setA (setA σ 29 (3 * σ.1 28) key) 29 (3 * σ.1 28 + 1) what) 29 (3 * σ.1 28 + 2) c') 28 (σ.1 28 + 1)) (oSee s key what could).2) := by
    intro c' hc hl hin hsh
    subst hc
    unfold oSee
    rw [if_neg (fun z => z hin), if_neg hsh, if_neg hl, e28]
    refine ⟨rfl, hR.seen (fun f hf => by rw [setI_1n hf]; rfl) (fun f i hf => by rw [setI_2, setA_2o hf, setA_2o hf, setA_2o hf]) (seen_add h4 (by omega))⟩
  refine v_iload_n (n' := 1) h dX2_see_0 rfl rfl ?_
  refine v_i2l (n' := 2) h dX2_see_1 rfl (by omega) ?_
  refine v_lconst (n' := 3) (y := 0) h dX2_see_2 rfl rfl ?_
  refine v_ldc2 (n' := 6) (z := 99) h dX2_see_3 rfl q1220 (by decide) ?_
  refine vs_callI (n' := 9) h (m_in _ _ _ (by omega) (by omega) (by omega)) (lw_S q1093 q1094 q87 q1095) hdX2_in (by decide) ⟨Nat.zero_le _, Nat.zero_le _⟩ (Nat.le_of_ble_eq_true rfl) dX2_see_6 rfl rfl (fun z6 p6 => ?_)
  have p6 := p6.symm
  subst p6
  refine v_bif_eq (n' := 12) (tgt := 24) h dX2_see_9 rfl rfl (fun c9 => ?_) (fun c9 => ?_)
  · refine v_bipush (n' := 26) h dX2_see_24 rfl (by decide) ?_
    refine v_iret h hq dX2_see_26 (Nat.le_refl _) (Nat.le_refl _) (ret_mi hm ?_)
    unfold oSee; rw [if_pos (fun z => c9 z.1)]; exact ⟨rfl, hR⟩
  · refine v_iload_n (n' := 13) h dX2_see_12 rfl rfl ?_
    refine v_i2l (n' := 14) h dX2_see_13 rfl (by omega) ?_
    refine v_lconst (n' := 15) (y := 0) h dX2_see_14 rfl rfl ?_
    refine v_ldc2 (n' := 18) (z := 3) h dX2_see_15 rfl q1329 (by decide) ?_
    refine vs_callI (n' := 21) h (m_in _ _ _ (by omega) (by omega) (by omega)) (lw_S q1093 q1094 q87 q1095) hdX2_in (by decide) ⟨Nat.zero_le _, Nat.zero_le _⟩ (Nat.le_of_ble_eq_true rfl) dX2_see_18 rfl rfl (fun z18 p18 => ?_)
    have p18 := p18.symm
    subst p18
    refine v_bif_ne (n' := 24) (tgt := 27) h dX2_see_21 rfl rfl (fun c21 => ?_) (fun c21 => ?_)
    · refine v_aload_n (n' := 28) h dX2_see_27 rfl rfl ?_
      refine vm_callI (n' := 31) h hok hm (m_lacks _ _ _ hR hI) rfl (lw_V q1216 q1218 qs61 q87 q1219) hdX2_lacks (by decide) ⟨Nat.zero_le _, Nat.zero_le _⟩ (Nat.le_of_ble_eq_true rfl) dX2_see_28 rfl rfl (fun z28 s28 p28 m28 => ?_)
      obtain ⟨ez28, fz28⟩ := p28
      have ez28 := ez28.symm
      have fz28 := fz28.symm
      subst ez28 fz28
      refine v_bif_eq (n' := 34) (tgt := 37) h dX2_see_31 rfl rfl (fun c31 => ?_) (fun c31 => ?_)
      · refine v_aload_n (n' := 38) h dX2_see_37 rfl rfl ?_
        refine vm_geti (n' := 41) h m28 28 (by decide) q965 dX2_see_38 rfl (fun g38 => ?_)
        refine v_bipush (n' := 43) h dX2_see_41 rfl (by decide) ?_
        refine v_icmp_ne (n' := 46) (tgt := 49) h dX2_see_43 rfl rfl (by omega) (by omega) (fun c43 => ?_) (fun c43 => ?_)
        · refine v_aload_n (n' := 50) h dX2_see_49 rfl rfl ?_
          refine vm_geta (n' := 53) h 29 (by decide) q966 dX2_see_50 rfl ?_
          refine v_iconst (n' := 54) h dX2_see_53 rfl ?_
          refine v_aload_n (n' := 55) h dX2_see_54 rfl rfl ?_
          refine vm_geti (n' := 58) h m28 28 (by decide) q965 dX2_see_55 rfl (fun g55 => ?_)
          refine v_imul (n' := 59) h dX2_see_58 rfl ?_
          refine v_iload_n (n' := 60) h dX2_see_59 rfl rfl ?_
          refine vm_iast (n' := 61) h hok m28 29 18 (by decide) dX2_see_60 rfl (by omega) (by decide) (by omega) (fun m60 => ?_)
          refine v_aload_n (n' := 62) h dX2_see_61 rfl rfl ?_
          refine vm_geta (n' := 65) h 29 (by decide) q966 dX2_see_62 rfl ?_
          refine v_iconst (n' := 66) h dX2_see_65 rfl ?_
          refine v_aload_n (n' := 67) h dX2_see_66 rfl rfl ?_
          refine vm_geti (n' := 70) h m60 28 (by decide) q965 dX2_see_67 rfl (fun g67 => ?_)
          refine v_imul (n' := 71) h dX2_see_70 rfl ?_
          refine v_iconst (n' := 72) h dX2_see_71 rfl ?_
          refine v_iadd (n' := 73) h dX2_see_72 rfl ?_
          refine v_iload_n (n' := 74) h dX2_see_73 rfl rfl ?_
          refine vm_iast (n' := 75) h hok m60 29 18 (by decide) dX2_see_74 rfl (by simp only [setA_1]; omega) (by decide) (by omega) (fun m74 => ?_)
          refine v_aload_n (n' := 76) h dX2_see_75 rfl rfl ?_
          refine vm_geta (n' := 79) h 29 (by decide) q966 dX2_see_76 rfl ?_
          refine v_iconst (n' := 80) h dX2_see_79 rfl ?_
          refine v_aload_n (n' := 81) h dX2_see_80 rfl rfl ?_
          refine vm_geti (n' := 84) h m74 28 (by decide) q965 dX2_see_81 rfl (fun g81 => ?_)
          refine v_imul (n' := 85) h dX2_see_84 rfl ?_
          refine v_iconst (n' := 86) h dX2_see_85 rfl ?_
          refine v_iadd (n' := 87) h dX2_see_86 rfl ?_
          refine v_iload_n (n' := 88) h dX2_see_87 rfl rfl ?_
          refine v_if_eq (n' := 91) (tgt := 95) h dX2_see_88 rfl rfl (by omega) (fun c88 => ?_) (fun c88 => ?_)
          · refine v_iconst (n' := 96) h dX2_see_95 rfl ?_
            refine vm_iast (n' := 97) h hok m74 29 18 (by decide) dX2_see_96 rfl (by simp only [setA_1]; omega) (by decide) (by omega) (fun m96 => ?_)
            refine v_aload_n (n' := 98) h dX2_see_97 rfl rfl ?_
            refine v_dup (n' := 99) h dX2_see_98 rfl rfl ?_
            refine vm_geti (n' := 102) h m96 28 (by decide) q965 dX2_see_99 rfl (fun g99 => ?_)
            refine v_iconst (n' := 103) h dX2_see_102 rfl ?_
            refine v_iadd (n' := 104) h dX2_see_103 rfl ?_
            refine vm_puti (n' := 107) h m96 28 (by decide) q965 dX2_see_104 rfl (by simp only [setA_1] at *; omega) (fun m104 => ?_)
            refine v_aload_n (n' := 108) h dX2_see_107 rfl rfl ?_
            refine vm_geti (n' := 111) h m104 28 (by decide) q965 dX2_see_108 rfl (fun g108 => ?_)
            refine v_iret h hq dX2_see_111 (Nat.le_refl _) (Nat.le_refl _) (ret_mi m104 ?_)
            refine (fin 0 (by omega) (by omega) ⟨c9, c21⟩ c31).imp (fun z => ?_) (fun z => z)
            rw [setI_1s]
            exact z
          · refine v_iconst (n' := 92) h dX2_see_91 rfl ?_
            refine v_goto (tgt := 96) h dX2_see_92 rfl ?_
            refine vm_iast (n' := 97) h hok m74 29 18 (by decide) dX2_see_96 rfl (by simp only [setA_1]; omega) (by decide) (by omega) (fun m96 => ?_)
            refine v_aload_n (n' := 98) h dX2_see_97 rfl rfl ?_
            refine v_dup (n' := 99) h dX2_see_98 rfl rfl ?_
            refine vm_geti (n' := 102) h m96 28 (by decide) q965 dX2_see_99 rfl (fun g99 => ?_)
            refine v_iconst (n' := 103) h dX2_see_102 rfl ?_
            refine v_iadd (n' := 104) h dX2_see_103 rfl ?_
            refine vm_puti (n' := 107) h m96 28 (by decide) q965 dX2_see_104 rfl (by simp only [setA_1] at *; omega) (fun m104 => ?_)
            refine v_aload_n (n' := 108) h dX2_see_107 rfl rfl ?_
            refine vm_geti (n' := 111) h m104 28 (by decide) q965 dX2_see_108 rfl (fun g108 => ?_)
            refine v_iret h hq dX2_see_111 (Nat.le_refl _) (Nat.le_refl _) (ret_mi m104 ?_)
            refine (fin 1 (by omega) (by omega) ⟨c9, c21⟩ c31).imp (fun z => ?_) (fun z => z)
            rw [setI_1s]
            exact z
        · refine v_bipush (n' := 48) h dX2_see_46 rfl (by decide) ?_
          refine v_iret h hq dX2_see_48 (Nat.le_refl _) (Nat.le_refl _) (ret_mi m28 ?_)
          unfold oSee; rw [if_neg (fun z => z ⟨c9, c21⟩), if_neg c31, if_pos (by omega)]; exact ⟨rfl, hR⟩
      · refine v_bipush (n' := 36) h dX2_see_34 rfl (by decide) ?_
        refine v_iret h hq dX2_see_36 (Nat.le_refl _) (Nat.le_refl _) (ret_mi m28 ?_)
        unfold oSee; rw [if_neg (fun z => z ⟨c9, c21⟩), if_pos c31]; exact ⟨rfl, hR⟩
    · refine v_bipush (n' := 26) h dX2_see_24 rfl (by decide) ?_
      refine v_iret h hq dX2_see_26 (Nat.le_refl _) (Nat.le_refl _) (ret_mi hm ?_)
      unfold oSee; rw [if_pos (fun z => c21 z.2)]; exact ⟨rfl, hR⟩
