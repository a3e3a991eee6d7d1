/-! MODEL 19: the digest, whole -/
set_option maxRecDepth 100000
def dgE (h : Shf) (k : Nat) : List Int := (k : Int) :: (List.range 7).map (fun i : Nat => tellE h k (i : Int))
def dgP (s : SS) : List Int := (List.range (sPn s).toNat).map (fun i : Nat => sPg s (i : Int))
def dgC (s : SS) : List Int := (List.range 8).map (fun i : Nat => oCount s (i : Int))
noncomputable def dgM (s : SS) : List Int := (if sSh s = 0 then [] else svL s) ++ [(srtN (sC s).2.2.2.2 7 : Int), askV (srtN (sC s).2.2.2.2 7)]
noncomputable def oDigest (s : SS) : Int := ((((tl (sC s).1.1).flatMap (dgE (sC s)) ++ dgM s) ++ dgP s) ++ dgC s).foldl sayF 1373
theorem oCount_r {s : SS} {n : Int} (hI : SInv s n) (hl : (sC s).2.2.2.1.length ≤ 60) (hn : (sC s).2.2.2.2.length ≤ 6) (what : Int) : -102 ≤ oCount s what ∧ oCount s what ≤ 100 := by
  have hz := hI.2.2.2.2.1.2.2.1
  have h1 := hI.2.1
  have h2 := hI.2.2.1
  have h3 := hI.2.2.2.2.2.2.2
  have h4 : 0 ≤ sA s ∧ sA s ≤ 9 ∧ 0 ≤ sB s ∧ sB s ≤ 9 ∧ 0 ≤ sF s ∧ sF s ≤ 9 := by
    rcases hI.2.2.2.1 with ⟨a1, a2, a3, a4, a5⟩ | ⟨a1, a2, a3, a4⟩
    · omega
    · have := rat_cases a2
      omega
  unfold oCount
  repeat' split
  all_goals omega
theorem askV_r (bits : Nat) : -1 ≤ askV bits ∧ askV bits ≤ 4 := by
  have := (askF_r bits 4 (Nat.le_refl _)).1
  unfold askV
  split <;> omega
theorem m_digest_C {Γ : GX} {s : SS} {n : Int} {ad : Nat → Nat} {h1 : Int} {w : Option Value} (hok : AdOk ad) (hI : SInv s n) (h : Ok0 cX2_digest yX2_digest.cls (some .long) (rmL 8) Γ) (hq : Rt (PJ ad (fun z σ' => z = oDigest s ∧ MRel σ' s)) 0 0 Γ) (hf : oDigest s = (dgC s).foldl sayF h1) :
    ∀ (m j : Nat) (σ : MS), j + m = 8 → MR σ → MRel σ s → σ.1 49 = ((List.range j).map (fun i : Nat => oCount s (i : Int))).foldl sayF h1 → V Γ 0 0 (mH ad σ) 124 [some (.ref (ad 50)), some (.int (iI (j : Int))), w] [] := by
  intro m
  induction m with
  | zero =>
    intro j σ hj hm hR hh
    obtain rfl : j = 8 := by omega
    refine v_iload_n (n' := 125) h dX2_digest_124 rfl rfl ?_
    refine v_bipush (n' := 127) h dX2_digest_125 rfl (by decide) ?_
    refine v_icmp_ge (n' := 130) (tgt := 146) h dX2_digest_127 rfl rfl (by omega) (by omega) (fun c127 => ?_) (fun c127 => ?_)
    · refine v_aload_n (n' := 147) h dX2_digest_146 rfl rfl ?_
      refine vm_getl (n' := 150) h q986 dX2_digest_147 rfl ?_
      refine v_lret h hq dX2_digest_150 (Nat.le_refl _) (Nat.le_refl _) (ret_mj hm ?_)
      exact ⟨by rw [hf]; exact hh, hR⟩
    · exact absurd (by decide) c127
  | succ m ih =>
    intro j σ hj hm hR hh
    have cr := oCount_r hI hR.2.2.2.2.2.2.1.2.2.1.2.1 hR.2.2.2.2.2.2.1.2.2.2.2.1 (j : Int)
    refine v_iload_n (n' := 125) h dX2_digest_124 rfl rfl ?_
    refine v_bipush (n' := 127) h dX2_digest_125 rfl (by decide) ?_
    refine v_icmp_ge (n' := 130) (tgt := 146) h dX2_digest_127 rfl rfl (by omega) (by omega) (fun c127 => ?_) (fun c127 => ?_)
    · exact absurd c127 (by omega)
    · refine v_aload_n (n' := 131) h dX2_digest_130 rfl rfl ?_
      refine v_aload_n (n' := 132) h dX2_digest_131 rfl rfl ?_
      refine v_iload_n (n' := 133) h dX2_digest_132 rfl rfl ?_
      refine vm_callI (n' := 136) h hok hm (m_countOf _ _ hR _ (by omega)) rfl (lw_V q1381 q1383 qs78 q87 q1384) hdX2_countOf (by decide) ⟨Nat.zero_le _, Nat.zero_le _⟩ (Nat.le_of_ble_eq_true rfl) dX2_digest_133 rfl rfl (fun z133 s133 p133 m133 => ?_)
      obtain ⟨ez133, fz133⟩ := p133
      have ez133 := ez133.symm
      have fz133 := fz133.symm
      subst ez133 fz133
      refine v_i2l (n' := 137) h dX2_digest_136 rfl (by omega) ?_
      refine vm_callV (n' := 140) h hok m133 (m_say _ _) rfl (lw_V q1390 q1392 qs79 q87 q1393) hdX2_say (by decide) ⟨Nat.zero_le _, Nat.zero_le _⟩ (Nat.le_of_ble_eq_true rfl) dX2_digest_137 rfl rfl (fun s137 p137 m137 => ?_)
      have p137 := p137.symm
      subst p137
      refine v_iinc1 (n' := 143) h dX2_digest_140 rfl rfl ?_
      refine v_goto (tgt := 124) h dX2_digest_143 rfl ?_
      have := ih (j + 1) _ (by omega) m137 (MRel.h49 hR) (by rw [setI_1s, hh, List.range_succ, List.map_append, List.foldl_append]; rfl)
      rw [show ((j + 1 : Nat) : Int) = (j : Int) + 1 by omega] at this
      exact this
theorem m_digest_B {Γ : GX} {s : SS} {n : Int} {ad : Nat → Nat} {h1 : Int} {w : Option Value} (hok : AdOk ad) (hI : SInv s n) (h : Ok0 cX2_digest yX2_digest.cls (some .long) (rmL 8) Γ) (hq : Rt (PJ ad (fun z σ' => z = oDigest s ∧ MRel σ' s)) 0 0 Γ) (hf : oDigest s = (dgP s ++ dgC s).foldl sayF h1) :
    ∀ (m j : Nat) (σ : MS), j + m = (sPn s).toNat → MR σ → MRel σ s → σ.1 49 = ((List.range j).map (fun i : Nat => sPg s (i : Int))).foldl sayF h1 → V Γ 0 0 (mH ad σ) 97 [some (.ref (ad 50)), some (.int (iI (j : Int))), w] [] := by
  have hpn := hI.2.1
  intro m
  induction m with
  | zero =>
    intro j σ hj hm hR hh
    have e1 := hR.2.1
    obtain rfl : j = (sPn s).toNat := by omega
    refine v_iload_n (n' := 98) h dX2_digest_97 rfl rfl ?_
    refine v_aload_n (n' := 99) h dX2_digest_98 rfl rfl ?_
    refine vm_geti (n' := 102) h hm 1 (by decide) q938 dX2_digest_99 rfl (fun g99 => ?_)
    refine v_icmp_ge (n' := 105) (tgt := 122) h dX2_digest_102 rfl rfl (by omega) (by omega) (fun c102 => ?_) (fun c102 => ?_)
    · refine v_iconst (n' := 123) h dX2_digest_122 rfl ?_
      refine v_istore1 (n' := 124) h dX2_digest_123 rfl rfl ?_
      exact m_digest_C (h1 := σ.1 49) hok hI h hq (by rw [hf, List.foldl_append, hh]; rfl) 8 0 σ (by omega) hm hR rfl
    · exact absurd (show σ.1 1 ≤ (((sPn s).toNat : Nat) : Int) by omega) c102
  | succ m ih =>
    intro j σ hj hm hR hh
    have e1 := hR.2.1
    have er := hI.1 (j : Int)
    have e0 := hR.1 (j : Int)
    refine v_iload_n (n' := 98) h dX2_digest_97 rfl rfl ?_
    refine v_aload_n (n' := 99) h dX2_digest_98 rfl rfl ?_
    refine vm_geti (n' := 102) h hm 1 (by decide) q938 dX2_digest_99 rfl (fun g99 => ?_)
    refine v_icmp_ge (n' := 105) (tgt := 122) h dX2_digest_102 rfl rfl (by omega) (by omega) (fun c102 => ?_) (fun c102 => ?_)
    · exact absurd c102 (by omega)
    · refine v_aload_n (n' := 106) h dX2_digest_105 rfl rfl ?_
      refine v_aload_n (n' := 107) h dX2_digest_106 rfl rfl ?_
      refine vm_geta (n' := 110) h 0 (by decide) q937 dX2_digest_107 rfl ?_
      refine v_iload_n (n' := 111) h dX2_digest_110 rfl rfl ?_
      refine vm_iald (n' := 112) h hok hm 0 54 (by decide) dX2_digest_111 rfl (by omega) (by decide) (fun g111 => ?_)
      rw [e0] at g111 ⊢
      refine v_i2l (n' := 113) h dX2_digest_112 rfl (by omega) ?_
      refine vm_callV (n' := 116) h hok hm (m_say _ _) rfl (lw_V q1390 q1392 qs79 q87 q1393) hdX2_say (by decide) ⟨Nat.zero_le _, Nat.zero_le _⟩ (Nat.le_of_ble_eq_true rfl) dX2_digest_113 rfl rfl (fun s113 p113 m113 => ?_)
      have p113 := p113.symm
      subst p113
      refine v_iinc1 (n' := 119) h dX2_digest_116 rfl rfl ?_
      refine v_goto (tgt := 97) h dX2_digest_119 rfl ?_
      have := ih (j + 1) _ (by omega) m113 (MRel.h49 hR) (by rw [setI_1s, hh, List.range_succ, List.map_append, List.foldl_append]; rfl)
      rw [show ((j + 1 : Nat) : Int) = (j : Int) + 1 by omega] at this
      exact this
theorem m_digest_62 {Γ : GX} {s : SS} {n : Int} {ad : Nat → Nat} {h1 : Int} {w w1 : Option Value} (hok : AdOk ad) (hI : SInv s n) (h : Ok0 cX2_digest yX2_digest.cls (some .long) (rmL 8) Γ) (hq : Rt (PJ ad (fun z σ' => z = oDigest s ∧ MRel σ' s)) 0 0 Γ) (hf : oDigest s = ((dgM s ++ dgP s) ++ dgC s).foldl sayF h1)
    (σ : MS) (hm : MR σ) (hR : MRel σ s) (hh : σ.1 49 = h1) : V Γ 0 0 (mH ad σ) 62 [some (.ref (ad 50)), w1, w] [] := by
  have sr := srtN_lt (sC s).2.2.2.2 7
  have ar := askV_r (srtN (sC s).2.2.2.2 7)
  have t73 : ∀ σ' : MS, MR σ' → MRel σ' s → σ'.1 49 = (if sSh s = 0 then [] else svL s).foldl sayF h1 → V Γ 0 0 (mH ad σ') 73 [some (.ref (ad 50)), w1, w] [] := by
    intro σ' hm R' h'
    have eM : (dgM s).foldl sayF h1 = sayF (sayF (σ'.1 49) (srtN (sC s).2.2.2.2 7 : Int)) (askV (srtN (sC s).2.2.2.2 7)) := by
      unfold dgM
      rw [List.foldl_append, ← h']
      rfl
    refine v_aload_n (n' := 74) h dX2_digest_73 rfl rfl ?_
    refine v_aload_n (n' := 75) h dX2_digest_74 rfl rfl ?_
    refine v_bipush (n' := 77) h dX2_digest_75 rfl (by decide) ?_
    refine vm_callI (n' := 80) h hok hm (m_sortsOf _ _ _ R' hI 7 (by omega)) rfl (lw_V q1338 q1340 qs75 q87 q1341) hdX2_sortsOf (by decide) ⟨Nat.zero_le _, Nat.zero_le _⟩ (Nat.le_of_ble_eq_true rfl) dX2_digest_77 rfl rfl (fun z77 s77 p77 m77 => ?_)
    obtain ⟨ez77, fz77⟩ := p77
    have ez77 := ez77.symm
    have fz77 := fz77.symm
    subst ez77 fz77
    refine v_i2l (n' := 81) h dX2_digest_80 rfl (by omega) ?_
    refine vm_callV (n' := 84) h hok m77 (m_say _ _) rfl (lw_V q1390 q1392 qs79 q87 q1393) hdX2_say (by decide) ⟨Nat.zero_le _, Nat.zero_le _⟩ (Nat.le_of_ble_eq_true rfl) dX2_digest_81 rfl rfl (fun s81 p81 m81 => ?_)
    have p81 := p81.symm
    subst p81
    refine v_aload_n (n' := 85) h dX2_digest_84 rfl rfl ?_
    refine v_aload_n (n' := 86) h dX2_digest_85 rfl rfl ?_
    refine v_bipush (n' := 88) h dX2_digest_86 rfl (by decide) ?_
    refine vm_callI (n' := 91) h hok m81 (m_askOf _ _ _ (MRel.h49 R') hI 7 (by omega)) rfl (lw_V q1345 q1347 qs76 q87 q1348) hdX2_askOf (by decide) ⟨Nat.zero_le _, Nat.zero_le _⟩ (Nat.le_of_ble_eq_true rfl) dX2_digest_88 rfl rfl (fun z88 s88 p88 m88 => ?_)
    obtain ⟨ez88, fz88⟩ := p88
    have ez88 := ez88.symm
    have fz88 := fz88.symm
    subst ez88 fz88
    refine v_i2l (n' := 92) h dX2_digest_91 rfl (by omega) ?_
    refine vm_callV (n' := 95) h hok m88 (m_say _ _) rfl (lw_V q1390 q1392 qs79 q87 q1393) hdX2_say (by decide) ⟨Nat.zero_le _, Nat.zero_le _⟩ (Nat.le_of_ble_eq_true rfl) dX2_digest_92 rfl rfl (fun s92 p92 m92 => ?_)
    have p92 := p92.symm
    subst p92
    refine v_iconst (n' := 96) h dX2_digest_95 rfl ?_
    refine v_istore1 (n' := 97) h dX2_digest_96 rfl rfl ?_
    refine m_digest_B (h1 := (setI (setI σ' 49 (sayF (σ'.1 49) (srtN (sC s).2.2.2.2 7 : Int))) 49 (sayF ((setI σ' 49 (sayF (σ'.1 49) (srtN (sC s).2.2.2.2 7 : Int))).1 49) (askV (srtN (sC s).2.2.2.2 7)))).1 49) hok hI h hq ?_ _ 0 _ (Nat.zero_add _) m92 (MRel.h49 (MRel.h49 R')) rfl
    rw [hf, List.append_assoc, List.foldl_append, eM, setI_1s, setI_1s]
  refine v_aload_n (n' := 63) h dX2_digest_62 rfl rfl ?_
  refine vm_callI (n' := 66) h hok hm (m_lacks _ _ _ hR hI) rfl (lw_V q1216 q1218 qs61 q87 q1219) hdX2_lacks (by decide) ⟨Nat.zero_le _, Nat.zero_le _⟩ (Nat.le_of_ble_eq_true rfl) dX2_digest_63 rfl rfl (fun z63 s63 p63 m63 => ?_)
  obtain ⟨ez63, fz63⟩ := p63
  have ez63 := ez63.symm
  have fz63 := fz63.symm
  subst ez63 fz63
  refine v_bif_ne (n' := 69) (tgt := 73) h dX2_digest_66 rfl rfl (fun c66 => ?_) (fun c66 => ?_)
  · exact t73 _ hm hR (by rw [if_pos c66, hh]; rfl)
  · refine v_aload_n (n' := 70) h dX2_digest_69 rfl rfl ?_
    refine vm_callV (n' := 73) h hok m63 (m_sayShelf _ _ _ hR hI c66) rfl (lw_V q1395 q1397 qs80 q87 q1398) hdX2_sayShelf (by decide) ⟨Nat.zero_le _, Nat.zero_le _⟩ (Nat.le_of_ble_eq_true rfl) dX2_digest_70 rfl rfl (fun s70 p70 m70 => ?_)
    obtain ⟨p1, p2⟩ := p70
    exact t73 _ m70 p1 (by rw [if_neg c66, p2, hh])
theorem less_100 {T : Tr} (hb : ∀ x ∈ tl T, x < 100) : less T 100 = tl T := by
  unfold less
  rw [List.filter_eq_self]
  intro x hx
  simp [hb x hx]
theorem m_digest_A {Γ : GX} {s : SS} {n : Int} {ad : Nat → Nat} (hok : AdOk ad) (hI : SInv s n) (h : Ok0 cX2_digest yX2_digest.cls (some .long) (rmL 8) Γ) (hq : Rt (PJ ad (fun z σ' => z = oDigest s ∧ MRel σ' s)) 0 0 Γ) :
    ∀ (m j : Nat) (σ : MS) (w : Option Value), j + m = 100 → MR σ → MRel σ s → σ.1 49 = ((less (sC s).1.1 j).flatMap (dgE (sC s))).foldl sayF 1373 → V Γ 0 0 (mH ad σ) 9 [some (.ref (ad 50)), some (.int (iI (j : Int))), w] [] := by
  intro m
  induction m with
  | zero =>
    intro j σ w hj hm hR hh
    obtain rfl : j = 100 := by omega
    rw [less_100 hI.2.2.2.2.1.2.1] at hh
    refine v_iload_n (n' := 10) h dX2_digest_9 rfl rfl ?_
    refine v_bipush (n' := 12) h dX2_digest_10 rfl (by decide) ?_
    refine v_icmp_ge (n' := 15) (tgt := 62) h dX2_digest_12 rfl rfl (by omega) (by omega) (fun c12 => ?_) (fun c12 => ?_)
    · exact m_digest_62 hok hI h hq (by unfold oDigest; rw [List.append_assoc, List.append_assoc, List.foldl_append, List.append_assoc]) σ hm hR hh
    · exact absurd (by decide) c12
  | succ m ih =>
    intro j σ w hj hm hR hh
    have hT := hR.2.2.2.2.2.2.1.1.1
    have h3 := hT.2.2.1 j (by omega)
    rw [show 100 * (0 : Int) + (j : Int) = (j : Int) by omega] at h3
    have es := less_s hI.2.2.2.2.1.1 j
    have ek : ((j + 1 : Nat) : Int) = (j : Int) + 1 := by omega
    have fin : ∀ (σ' : MS) (w' : Option Value), MR σ' → MRel σ' s → σ'.1 49 = ((less (sC s).1.1 (j + 1)).flatMap (dgE (sC s))).foldl sayF 1373 → V Γ 0 0 (mH ad σ') 56 [some (.ref (ad 50)), some (.int (iI (j : Int))), w'] [] := by
      intro σ' w' hm R' h'
      have ih := ih (j + 1) σ' w' (by omega) hm R' h'
      rw [ek] at ih
      refine v_iinc1 (n' := 59) h dX2_digest_56 rfl rfl ?_
      refine v_goto (tgt := 9) h dX2_digest_59 rfl ?_
      exact ih
    refine v_iload_n (n' := 10) h dX2_digest_9 rfl rfl ?_
    refine v_bipush (n' := 12) h dX2_digest_10 rfl (by decide) ?_
    refine v_icmp_ge (n' := 15) (tgt := 62) h dX2_digest_12 rfl rfl (by omega) (by omega) (fun c12 => ?_) (fun c12 => ?_)
    · exact absurd c12 (by omega)
    · refine v_aload_n (n' := 16) h dX2_digest_15 rfl rfl ?_
      refine vm_geta (n' := 19) h 5 (by decide) q942 dX2_digest_16 rfl ?_
      refine v_iload_n (n' := 20) h dX2_digest_19 rfl rfl ?_
      refine vm_iald (n' := 21) h hok hm 5 200 (by decide) dX2_digest_20 rfl (by omega) (by decide) (fun g20 => ?_)
      refine v_iconst (n' := 22) h dX2_digest_21 rfl ?_
      refine v_icmp_ne (n' := 25) (tgt := 56) h dX2_digest_22 rfl rfl (by omega) (by omega) (fun c22 => ?_) (fun c22 => ?_)
      · exact fin σ w hm hR (by rw [es, if_neg (fun z => by rw [if_pos z] at h3; exact c22 h3), List.append_nil]; exact hh)
      · refine v_aload_n (n' := 26) h dX2_digest_25 rfl rfl ?_
        refine v_iload_n (n' := 27) h dX2_digest_26 rfl rfl ?_
        refine v_i2l (n' := 28) h dX2_digest_27 rfl (by omega) ?_
        refine vm_callV (n' := 31) h hok hm (m_say _ _) rfl (lw_V q1390 q1392 qs79 q87 q1393) hdX2_say (by decide) ⟨Nat.zero_le _, Nat.zero_le _⟩ (Nat.le_of_ble_eq_true rfl) dX2_digest_28 rfl rfl (fun s28 p28 m28 => ?_)
        have p28 := p28.symm
        subst p28
        refine v_iconst (n' := 32) h dX2_digest_31 rfl ?_
        refine v_istore2 (n' := 33) h dX2_digest_32 rfl rfl ?_
        have hk : j ∈ tl (sC s).1.1 := Classical.byContradiction (fun z => by rw [if_neg z] at h3; omega)
        have lp : ∀ (m2 i : Nat) (σ' : MS), i + m2 = 7 → MR σ' → MRel σ' s → σ'.1 49 = ((j : Int) :: (List.range i).map (fun i : Nat => tellE (sC s) j (i : Int))).foldl sayF (σ.1 49) → V Γ 0 0 (mH ad σ') 33 [some (.ref (ad 50)), some (.int (iI (j : Int))), some (.int (iI (i : Int)))] [] := by
          intro m2
          induction m2 with
          | zero =>
            intro i σ' hi hm R' h'
            obtain rfl : i = 7 := by omega
            refine v_iload_n (n' := 34) h dX2_digest_33 rfl rfl ?_
            refine v_bipush (n' := 36) h dX2_digest_34 rfl (by decide) ?_
            refine v_icmp_ge (n' := 39) (tgt := 56) h dX2_digest_36 rfl rfl (by omega) (by omega) (fun c36 => ?_) (fun c36 => ?_)
            · refine fin σ' _ hm R' ?_
              rw [h', es, if_pos hk, List.flatMap_append, List.foldl_append, ← hh]
              simp only [List.flatMap_cons, List.flatMap_nil, List.append_nil]
              rfl
            · exact absurd (by decide) c36
          | succ m2 ih2 =>
            intro i σ' hi hm R' h'
            have tr := tellE_r (what := (i : Int)) hI.2.2.2.2.1 hk
            refine v_iload_n (n' := 34) h dX2_digest_33 rfl rfl ?_
            refine v_bipush (n' := 36) h dX2_digest_34 rfl (by decide) ?_
            refine v_icmp_ge (n' := 39) (tgt := 56) h dX2_digest_36 rfl rfl (by omega) (by omega) (fun c36 => ?_) (fun c36 => ?_)
            · exact absurd c36 (by omega)
            · refine v_aload_n (n' := 40) h dX2_digest_39 rfl rfl ?_
              refine v_aload_n (n' := 41) h dX2_digest_40 rfl rfl ?_
              refine v_iload_n (n' := 42) h dX2_digest_41 rfl rfl ?_
              refine v_iload_n (n' := 43) h dX2_digest_42 rfl rfl ?_
              refine vm_callI (n' := 46) h hok hm (m_tellEntry _ _ _ R' hI j hk _ (by omega)) rfl (lw_V q1221 q1223 qs62 q87 q1224) hdX2_tellEntry (by decide) ⟨Nat.zero_le _, Nat.zero_le _⟩ (Nat.le_of_ble_eq_true rfl) dX2_digest_43 rfl rfl (fun z43 s43 p43 m43 => ?_)
              obtain ⟨ez43, fz43⟩ := p43
              have ez43 := ez43.symm
              have fz43 := fz43.symm
              subst ez43 fz43
              rw [if_pos (by omega)]
              refine v_i2l (n' := 47) h dX2_digest_46 rfl (by omega) ?_
              refine vm_callV (n' := 50) h hok m43 (m_say _ _) rfl (lw_V q1390 q1392 qs79 q87 q1393) hdX2_say (by decide) ⟨Nat.zero_le _, Nat.zero_le _⟩ (Nat.le_of_ble_eq_true rfl) dX2_digest_47 rfl rfl (fun s47 p47 m47 => ?_)
              have p47 := p47.symm
              subst p47
              refine v_iinc2 (n' := 53) h dX2_digest_50 rfl rfl ?_
              refine v_goto (tgt := 33) h dX2_digest_53 rfl ?_
              have := ih2 (i + 1) _ (by omega) m47 (MRel.h49 R') (by rw [setI_1s, h', List.range_succ, List.map_append, ← List.cons_append, List.foldl_append]; rfl)
              rw [show ((i + 1 : Nat) : Int) = (i : Int) + 1 by omega] at this
              exact this
        exact lp 7 0 _ (by omega) m28 (MRel.h49 hR) setI_1s
theorem m_digest (σ : MS) (s : SS) (n : Int) (hR : MRel σ s) (hI : SInv s n) : MCj yX2_digest cX2_digest 3 (some .long) 8 [] σ (fun z σ' => z = oDigest s ∧ MRel σ' s) := by
  intro ad hok hm
  refine Ct.of (by decide) (EL.c1 rfl (EL.nn (EL.nn EL.n0))) (fun Γ h hq hnm => ?_)
  have lp := m_digest_A hok hI h hq 100 0 (setI σ 49 1373) none (by omega)
  refine v_aload_n (n' := 1) h dX2_digest_0 rfl rfl ?_
  refine v_ldc2 (n' := 4) (z := 1373) h dX2_digest_1 rfl q1389 (by decide) ?_
  refine vm_putl (n' := 7) h hm q986 dX2_digest_4 rfl (fun m4 => ?_)
  refine v_iconst (n' := 8) h dX2_digest_7 rfl ?_
  refine v_istore1 (n' := 9) h dX2_digest_8 rfl rfl ?_
  refine lp m4 (MRel.h49 hR) ?_
  have e : less (sC s).1.1 0 = [] := by
    unfold less
    rw [List.filter_eq_nil_iff]
    intro x _
    simp
  rw [e]
  rfl
