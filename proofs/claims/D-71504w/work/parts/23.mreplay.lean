/-! MODEL 13: replay, ahead, drawn -/
set_option maxRecDepth 100000
theorem ins_perm (T : Tr) (k : Nat) : (tl (ins T k)).Perm (k :: tl T) := by
  induction T with
  | leaf u => simp [ins, tl]
  | branch x l r ihl ihr =>
    rw [ins_br]
    split
    · rw [tl_br, tl_br]
      exact (List.Perm.append_right _ ihl)
    · rw [tl_br, tl_br]
      refine (List.Perm.append_left _ (List.Perm.cons x ihr)).trans ?_
      refine (List.Perm.append_left _ (List.Perm.swap k x _)).trans ?_
      exact List.perm_middle
noncomputable def rpStep (a b fee : Int) (te : Tre) (x : Int) : Tre := if x < 0 then teLeave a b fee te (-1 - x).toNat else teEnter a b fee te x.toNat
noncomputable def rpTe (a b fee : Int) (lg : List Int) : Tre := lg.foldl (rpStep a b fee) te0
noncomputable def replayV (a b fee : Int) (lg : List Int) (what : Int) : Int := if what = 0 then (rpTe a b fee lg).2.2.2.1 else th (rpTe a b fee lg).1
theorem empty_RelT {σ : MS} {t : Int} (ht : t = 0 ∨ t = 1) (hm : t = 0 → (σ.1 19, σ.1 20) = (0, 0)) : RelT (emptyS σ t) t te0 := by
  refine ⟨⟨trivial, ?_, fun k hk => ?_, List.Pairwise.nil, ⟨fun k hk => absurd hk List.not_mem_nil, Nat.zero_le _⟩⟩, ?_, ?_, ?_, ?_, hm⟩
  · unfold emptyS; rw [setA_2o (by decide), setA_2o (by decide), setA_2o (by decide), setA_2o (by decide), setA_2s]; rfl
  · unfold emptyS; rw [setA_2o (by decide), setA_2o (by decide), setA_2o (by decide), setA_2o (by decide), setA_2o (by decide)]
    exact if_pos (by omega)
  · unfold emptyS; rw [setA_2o (by decide), setA_2o (by decide), setA_2o (by decide), setA_2s]; rfl
  · unfold emptyS; rw [setA_2o (by decide), setA_2o (by decide), setA_2s]; rfl
  · unfold emptyS; rw [setA_2o (by decide), setA_2s]; rfl
  · unfold emptyS; rw [setA_2s]; rfl
theorem empty_Fr {σ : MS} {t : Int} (ht : t = 0 ∨ t = 1) : Fr t σ (emptyS σ t) := by
  unfold emptyS
  have h0 : Fr t σ (clrS σ t 100) := ⟨fun _ _ _ => rfl, fun f i e => if_neg (fun z => e (by unfold wr; omega))⟩
  exact ((((h0.trans (Fr.sA (by unfold wr; omega))).trans (Fr.sA (by unfold wr; omega))).trans (Fr.sA (by unfold wr; omega))).trans (Fr.sA (by unfold wr; omega))).trans (Fr.sA (by unfold wr; omega))
/-- a step of a log, of a set and of a tree -/
theorem step_perm {a b fee : Int} {te : Tre} {S : List Nat} {x : Int} (hs : Srt te.1) (hp : S.Perm (tl te.1)) (hv : if x < 0 then (-1 - x).toNat ∈ S ∧ -1 - x < 100 else x < 100 ∧ x.toNat ∉ S ∧ S.length < 40) : (lstep S x).Perm (tl (rpStep a b fee te x).1) := by
  unfold lstep rpStep
  by_cases c : x < 0
  · rw [if_pos c] at hv ⊢
    rw [if_pos c]
    show (S.filter _).Perm (tl (levR a b te.2.1 te.1 (-1 - x).toNat).1)
    rw [levR_tl, del_tl hs]
    exact hp.filter _
  · rw [if_neg c] at hv ⊢
    rw [if_neg c]
    show (x.toNat :: S).Perm (tl (entR a b te.1 x.toNat).1)
    rw [entR_tl hs (fun z => hv.2.1 (hp.mem_iff.mpr z))]
    exact (List.Perm.cons _ hp).trans (ins_perm _ _).symm
theorem m_replayOf_loop {Γ : GX} {s : SS} {n : Int} {ad : Nat → Nat} {a b what hh : Int} (hw : 0 ≤ what ∧ what ≤ 1) (hab : isRat a b) (hok : AdOk ad) (hI : SInv s n) (h0 : ¬ sSh s = 0) (h : Ok0 cX2_replayOf yX2_replayOf.cls (some .int) (rmL 6) Γ) (hq : Rt (PI ad (fun z σ' => z = replayV a b (sF s) (sC s).2.2.2.1 what ∧ MRel σ' s ∧ σ'.1 49 = hh)) 0 0 Γ) :
    ∀ (m j : Nat) (σ : MS) (te : Tre) (S : List Nat), j + m = (sC s).2.2.2.1.length → MR σ → MRel σ s → RelT σ 1 te → σ.1 16 = a → σ.1 17 = b → TeB te (450 * (j : Int)) → S.Perm (tl te.1) → lvalid S ((sC s).2.2.2.1.drop j) → ((sC s).2.2.2.1.drop j).foldl (rpStep a b (sF s)) te = rpTe a b (sF s) (sC s).2.2.2.1 → σ.1 49 = hh → V Γ 0 0 (mH ad σ) 18 [some (.ref (ad 50)), some (.int (iI a)), some (.int (iI b)), some (.int (iI what)), some (.int (iI (j : Int)))] [] := by
  have hrat := hI.rat h0
  intro m
  induction m with
  | zero =>
    intro j σ te S hj hm hR hT h16 h17 hB hP hv hf h49
    obtain ⟨l1, l2, l3⟩ := hR.2.2.2.2.2.2.1.2.2.1
    have ej : j = (sC s).2.2.2.1.length := by omega
    rw [ej, List.drop_length] at hf
    have hf : te = rpTe a b (sF s) (sC s).2.2.2.1 := hf
    refine v_iload (n' := 20) h dX2_replayOf_18 rfl rfl ?_
    refine v_aload_n (n' := 21) h dX2_replayOf_20 rfl rfl ?_
    refine vm_geti (n' := 24) h hm 22 (by decide) q959 dX2_replayOf_21 rfl (fun g21 => ?_)
    refine v_icmp_ge (n' := 27) (tgt := 72) h dX2_replayOf_24 rfl rfl (by omega) (by omega) (fun c24 => ?_) (fun c24 => ?_)
    · refine v_iload_n (n' := 73) h dX2_replayOf_72 rfl rfl ?_
      refine v_if_ne (n' := 76) (tgt := 85) h dX2_replayOf_73 rfl rfl (by omega) (fun c73 => ?_) (fun c73 => ?_)
      · refine v_aload_n (n' := 86) h dX2_replayOf_85 rfl rfl ?_
        refine v_iconst (n' := 87) h dX2_replayOf_86 rfl ?_
        refine vm_callI (n' := 90) h hok hm (m_tall _ _ (Or.inr rfl) _ hT.1) rfl (lw_V q1284 q1286 qs69 q87 q1287) hdX2_tall (by decide) ⟨Nat.zero_le _, Nat.zero_le _⟩ (Nat.le_of_ble_eq_true rfl) dX2_replayOf_87 rfl rfl (fun z87 s87 p87 m87 => ?_)
        obtain ⟨ez87, fz87⟩ := p87
        have ez87 := ez87.symm
        have fz87 := fz87.symm
        subst ez87 fz87
        refine v_iret h hq dX2_replayOf_90 (Nat.le_refl _) (Nat.le_refl _) (ret_mi m87 ?_)
        exact ⟨by unfold replayV; rw [if_neg c73, hf], hR, h49⟩
      · refine v_aload_n (n' := 77) h dX2_replayOf_76 rfl rfl ?_
        refine vm_geta (n' := 80) h 11 (by decide) q948 dX2_replayOf_77 rfl ?_
        refine v_iconst (n' := 81) h dX2_replayOf_80 rfl ?_
        refine vm_iald (n' := 82) h hok hm 11 2 (by decide) dX2_replayOf_81 rfl (by omega) (by decide) (fun g81 => ?_)
        refine v_goto (tgt := 90) h dX2_replayOf_82 rfl ?_
        refine v_iret h hq dX2_replayOf_90 (Nat.le_refl _) (Nat.le_refl _) (ret_mi hm ?_)
        exact ⟨by unfold replayV; rw [if_pos c73, ← hf]; exact hT.2.2.2.2.1, hR, h49⟩
    · exact absurd (show σ.1 22 ≤ (j : Int) by omega) c24
  | succ m ih =>
    intro j σ te S hj hm hR hT h16 h17 hB hP hv hf h49
    obtain ⟨l1, l2, l3⟩ := hR.2.2.2.2.2.2.1.2.2.1
    have hj2 : j < (sC s).2.2.2.1.length := by omega
    have hx := l3 j hj2
    have ed : (sC s).2.2.2.1.drop j = (sC s).2.2.2.1.getD j 0 :: (sC s).2.2.2.1.drop (j + 1) := by
      rw [List.drop_eq_getElem_cons hj2]
      simp [List.getD, hj2]
    rw [ed] at hv hf
    generalize (sC s).2.2.2.1.getD j 0 = x at hv hf hx
    obtain ⟨hv1, hv2⟩ := hv
    have hs := hT.1.2.2.2.1
    have hz := hT.1.2.2.2.2.2
    have hlen := hP.length_eq
    rw [tz_len] at hlen
    have hsp := step_perm (a := a) (b := b) (fee := sF s) hs hP hv1
    have ek : ((j + 1 : Nat) : Int) = (j : Int) + 1 := by omega
    have hfee : 0 ≤ σ.1 18 ∧ σ.1 18 ≤ 9 := by rw [hR.2.2.2.2.2.1]; exact hrat.2
    have ef := hR.2.2.2.2.2.1
    have hfl : ((sC s).2.2.2.1.drop (j + 1)).foldl (rpStep a b (sF s)) (rpStep a b (sF s) te x) = rpTe a b (sF s) (sC s).2.2.2.1 := hf
    have fin : ∀ σ' : MS, MR σ' → RelT σ' 1 (rpStep a b (sF s) te x) → TeB (rpStep a b (sF s) te x) (450 * (j : Int) + 450) → Fr 1 σ σ' → V Γ 0 0 (mH ad σ') 18 [some (.ref (ad 50)), some (.int (iI a)), some (.int (iI b)), some (.int (iI what)), some (.int (iI ((j : Int) + 1)))] [] := by
      intro σ' m' hT' hB' hF
      rw [← ek]
      exact ih (j + 1) σ' _ (lstep S x) (by omega) m' (hF.MRel1 hR) hT' (by rw [hF.1 16 (by decide) (by decide)]; exact h16) (by rw [hF.1 17 (by decide) (by decide)]; exact h17) (hB'.le (by omega)) hsp hv2 hfl (by rw [hF.1 49 (by decide) (by decide)]; exact h49)
    refine v_iload (n' := 20) h dX2_replayOf_18 rfl rfl ?_
    refine v_aload_n (n' := 21) h dX2_replayOf_20 rfl rfl ?_
    refine vm_geti (n' := 24) h hm 22 (by decide) q959 dX2_replayOf_21 rfl (fun g21 => ?_)
    refine v_icmp_ge (n' := 27) (tgt := 72) h dX2_replayOf_24 rfl rfl (by omega) (by omega) (fun c24 => ?_) (fun c24 => ?_)
    · exact absurd c24 (by omega)
    · refine v_aload_n (n' := 28) h dX2_replayOf_27 rfl rfl ?_
      refine vm_geta (n' := 31) h 21 (by decide) q958 dX2_replayOf_28 rfl ?_
      refine v_iload (n' := 33) h dX2_replayOf_31 rfl rfl ?_
      refine vm_iald (n' := 34) h hok hm 21 60 (by decide) dX2_replayOf_33 rfl (by omega) (by decide) (fun g33 => ?_)
      rw [hx] at g33 ⊢
      refine v_if_ge (n' := 37) (tgt := 54) h dX2_replayOf_34 rfl rfl (by omega) (fun c34 => ?_) (fun c34 => ?_)
      · rw [if_neg (by omega)] at hv1
        have est : rpStep a b (sF s) te x = teEnter a b (sF s) te x.toNat := by unfold rpStep; rw [if_neg (by omega)]
        rw [est] at fin
        refine v_aload_n (n' := 55) h dX2_replayOf_54 rfl rfl ?_
        refine v_iconst (n' := 56) h dX2_replayOf_55 rfl ?_
        refine v_aload_n (n' := 57) h dX2_replayOf_56 rfl rfl ?_
        refine vm_geta (n' := 60) h 21 (by decide) q958 dX2_replayOf_57 rfl ?_
        refine v_iload (n' := 62) h dX2_replayOf_60 rfl rfl ?_
        refine vm_iald (n' := 63) h hok hm 21 60 (by decide) dX2_replayOf_62 rfl (by omega) (by decide) (fun g62 => ?_)
        rw [hx, show x = ((x.toNat : Nat) : Int) by omega]
        refine vm_callV (n' := 66) h hok hm (m_enterT _ 1 (Or.inr rfl) te hT (hB.le (by omega)) x.toNat (fun z => hv1.2.1 (hP.mem_iff.mpr z)) (by omega) (by omega) a b (hR.h19 hI) hfee (by rw [if_neg (by decide)]; exact h16) (by rw [if_neg (by decide)]; exact h17) hab) rfl (lw_V q1148 q1150 qs45 q87 q1151) hdX2_enter (by decide) ⟨Nat.zero_le _, Nat.zero_le _⟩ (Nat.le_of_ble_eq_true rfl) dX2_replayOf_63 rfl rfl (fun s63 p63 m63 => ?_)
        obtain ⟨p1, -, pF⟩ := p63
        rw [ef] at p1
        refine v_iinc4 (n' := 69) h dX2_replayOf_66 rfl rfl ?_
        refine v_goto (tgt := 18) h dX2_replayOf_69 rfl ?_
        exact fin _ m63 p1 (teEnter_B hB (by omega) (by omega) hrat.2) pF
      · rw [if_pos (by omega)] at hv1
        have est : rpStep a b (sF s) te x = teLeave a b (sF s) te (-1 - x).toNat := by unfold rpStep; rw [if_pos (by omega)]
        rw [est] at fin
        have hkT : (-1 - x).toNat ∈ tl te.1 := hP.mem_iff.mp hv1.1
        have hk1 : 1 ≤ tz te.1 := by
          rw [← tz_len]
          exact List.length_pos_of_mem hkT
        refine v_aload_n (n' := 38) h dX2_replayOf_37 rfl rfl ?_
        refine v_iconst (n' := 39) h dX2_replayOf_38 rfl ?_
        refine v_iconst (n' := 40) h dX2_replayOf_39 rfl ?_
        refine v_aload_n (n' := 41) h dX2_replayOf_40 rfl rfl ?_
        refine vm_geta (n' := 44) h 21 (by decide) q958 dX2_replayOf_41 rfl ?_
        refine v_iload (n' := 46) h dX2_replayOf_44 rfl rfl ?_
        refine vm_iald (n' := 47) h hok hm 21 60 (by decide) dX2_replayOf_46 rfl (by omega) (by decide) (fun g46 => ?_)
        rw [hx] at g46 ⊢
        refine v_isub (n' := 48) h dX2_replayOf_47 rfl ?_
        rw [show (-1 - x : Int) = (((-1 - x).toNat : Nat) : Int) by omega]
        refine vm_callV (n' := 51) h hok hm (m_leaveT _ 1 (Or.inr rfl) te hT (hB.le (by omega)) (-1 - x).toNat hkT a b (hR.h19 hI) hfee (by rw [if_neg (by decide)]; exact h16) (by rw [if_neg (by decide)]; exact h17) hab) rfl (lw_V q1255 q1257 qs65 q87 q1258) hdX2_leave (by decide) ⟨Nat.zero_le _, Nat.zero_le _⟩ (Nat.le_of_ble_eq_true rfl) dX2_replayOf_48 rfl rfl (fun s48 p48 m48 => ?_)
        obtain ⟨p1, -, pF⟩ := p48
        rw [ef] at p1
        refine v_goto (tgt := 66) h dX2_replayOf_51 rfl ?_
        refine v_iinc4 (n' := 69) h dX2_replayOf_66 rfl rfl ?_
        refine v_goto (tgt := 18) h dX2_replayOf_69 rfl ?_
        exact fin _ m48 p1 (teLeave_B hB (by omega) hz hk1 hrat.2) pF
theorem m_replayOf (σ : MS) (s : SS) (n : Int) (hR : MRel σ s) (hI : SInv s n) (h0 : ¬ sSh s = 0) (a b what : Int) (hw : 0 ≤ what ∧ what ≤ 1) (hab : isRat a b) : MCi yX2_replayOf cX2_replayOf 5 (some .int) 6 [.int (iI a), .int (iI b), .int (iI what)] σ (fun z σ' => z = replayV a b (sF s) (sC s).2.2.2.1 what ∧ MRel σ' s ∧ σ'.1 49 = σ.1 49) := by
  intro ad hok hm
  have ab := rat_cases hab
  have hF : Fb σ (emptyS σ 1) := (empty_Fr (Or.inr rfl)).b
  have hT := empty_RelT (σ := σ) (t := 1) (Or.inr rfl) (fun z => by omega)
  have hlv := hI.2.2.2.2.1.2.2.2.2.2.1.1
  refine Ct.of (by decide) (EL.c1 rfl (EL.c1 rfl (EL.c1 rfl (EL.c1 rfl (EL.nn EL.n0))))) (fun Γ h hq hnm => ?_)
  refine v_aload_n (n' := 1) h dX2_replayOf_0 rfl rfl ?_
  refine v_iconst (n' := 2) h dX2_replayOf_1 rfl ?_
  refine vm_callV (n' := 5) h hok hm (m_empty _ _ (Or.inr rfl)) rfl (lw_V q1140 q1142 qs43 q87 q1143) hdX2_empty (by decide) ⟨Nat.zero_le _, Nat.zero_le _⟩ (Nat.le_of_ble_eq_true rfl) dX2_replayOf_2 rfl rfl (fun s2 p2 m2 => ?_)
  have p2 := p2.symm
  subst p2
  refine v_aload_n (n' := 6) h dX2_replayOf_5 rfl rfl ?_
  refine v_iload_n (n' := 7) h dX2_replayOf_6 rfl rfl ?_
  refine vm_puti (n' := 10) h m2 16 (by decide) q953 dX2_replayOf_7 rfl (by omega) (fun m7 => ?_)
  refine v_aload_n (n' := 11) h dX2_replayOf_10 rfl rfl ?_
  refine v_iload_n (n' := 12) h dX2_replayOf_11 rfl rfl ?_
  refine vm_puti (n' := 15) h m7 17 (by decide) q954 dX2_replayOf_12 rfl (by omega) (fun m12 => ?_)
  refine v_iconst (n' := 16) h dX2_replayOf_15 rfl ?_
  refine v_istore4 (n' := 18) h dX2_replayOf_16 rfl rfl ?_
  refine m_replayOf_loop hw hab hok hI h0 h hq _ 0 _ te0 [] (Nat.zero_add _) m12 (((hF.trans (Fb.sI (by decide))).trans (Fb.sI (by decide))).MRel hR) (hT.cg (fun _ _ _ => rfl) (fun z => by omega)) (by rw [setI_1n (by decide), setI_1s]) setI_1s ?_ (List.Perm.refl _) hlv rfl rfl
  unfold TeB te0
  dsimp only
  omega
noncomputable def oReplay (s : SS) (a b what : Int) : Int := by
  classical
  exact if ¬ ((1 ≤ a ∧ a ≤ 5) ∧ isRat a b ∧ (0 ≤ what ∧ what ≤ 1)) then -102 else if sSh s = 0 then -103 else replayV a b (sF s) (sC s).2.2.2.1 what
theorem m_replay (σ : MS) (s : SS) (n : Int) (hR : MRel σ s) (hI : SInv s n) (a b what : Int) (h1 : -2147483648 ≤ a ∧ a ≤ 2147483647) (h2 : -2147483648 ≤ b ∧ b ≤ 2147483647) (h3 : -2147483648 ≤ what ∧ what ≤ 2147483647) : MCi yX2_replay cX2_replay 4 (some .int) 7 [.int (iI a), .int (iI b), .int (iI what)] σ (fun z σ' => z = oReplay s a b what ∧ MRel σ' s) := by
  intro ad hok hm
  refine Ct.of (by decide) (EL.c1 rfl (EL.c1 rfl (EL.c1 rfl (EL.c1 rfl EL.n0)))) (fun Γ h hq hnm => ?_)
  refine v_iload_n (n' := 1) h dX2_replay_0 rfl rfl ?_
  refine v_i2l (n' := 2) h dX2_replay_1 rfl (by omega) ?_
  refine v_lconst (n' := 3) (y := 1) h dX2_replay_2 rfl rfl ?_
  refine v_ldc2 (n' := 6) (z := 5) h dX2_replay_3 rfl q1117 (by decide) ?_
  refine vs_callI (n' := 9) h (m_in _ _ _ (by omega) (by omega) (by omega)) (lw_S q1093 q1094 q87 q1095) hdX2_in (by decide) ⟨Nat.zero_le _, Nat.zero_le _⟩ (Nat.le_of_ble_eq_true rfl) dX2_replay_6 rfl rfl (fun z6 p6 => ?_)
  have p6 := p6.symm
  subst p6
  refine v_bif_eq (n' := 12) (tgt := 30) h dX2_replay_9 rfl rfl (fun c9 => ?_) (fun c9 => ?_)
  · refine v_bipush (n' := 32) h dX2_replay_30 rfl (by decide) ?_
    refine v_iret h hq dX2_replay_32 (Nat.le_refl _) (Nat.le_refl _) (ret_mi hm ?_)
    exact ⟨by unfold oReplay; rw [if_pos (fun z => c9 z.1)], hR⟩
  · refine v_iload_n (n' := 13) h dX2_replay_12 rfl rfl ?_
    refine v_iload_n (n' := 14) h dX2_replay_13 rfl rfl ?_
    refine vs_callI (n' := 17) h (m_isRatio _ _ (by omega) (by omega)) (lw_S q1114 q1115 q87 q1116) hdX2_isRatio (by decide) ⟨Nat.zero_le _, Nat.zero_le _⟩ (Nat.le_of_ble_eq_true rfl) dX2_replay_14 rfl rfl (fun z14 p14 => ?_)
    have p14 := p14.symm
    subst p14
    refine v_bif_eq (n' := 20) (tgt := 30) h dX2_replay_17 rfl rfl (fun c17 => ?_) (fun c17 => ?_)
    · refine v_bipush (n' := 32) h dX2_replay_30 rfl (by decide) ?_
      refine v_iret h hq dX2_replay_32 (Nat.le_refl _) (Nat.le_refl _) (ret_mi hm ?_)
      exact ⟨by unfold oReplay; rw [if_pos (fun z => c17 z.2.1)], hR⟩
    · refine v_iload_n (n' := 21) h dX2_replay_20 rfl rfl ?_
      refine v_i2l (n' := 22) h dX2_replay_21 rfl (by omega) ?_
      refine v_lconst (n' := 23) (y := 0) h dX2_replay_22 rfl rfl ?_
      refine v_lconst (n' := 24) (y := 1) h dX2_replay_23 rfl rfl ?_
      refine vs_callI (n' := 27) h (m_in _ _ _ (by omega) (by omega) (by omega)) (lw_S q1093 q1094 q87 q1095) hdX2_in (by decide) ⟨Nat.zero_le _, Nat.zero_le _⟩ (Nat.le_of_ble_eq_true rfl) dX2_replay_24 rfl rfl (fun z24 p24 => ?_)
      have p24 := p24.symm
      subst p24
      refine v_bif_ne (n' := 30) (tgt := 33) h dX2_replay_27 rfl rfl (fun c27 => ?_) (fun c27 => ?_)
      · refine v_aload_n (n' := 34) h dX2_replay_33 rfl rfl ?_
        refine vm_callI (n' := 37) h hok hm (m_lacks _ _ _ hR hI) rfl (lw_V q1216 q1218 qs61 q87 q1219) hdX2_lacks (by decide) ⟨Nat.zero_le _, Nat.zero_le _⟩ (Nat.le_of_ble_eq_true rfl) dX2_replay_34 rfl rfl (fun z34 s34 p34 m34 => ?_)
        obtain ⟨ez34, fz34⟩ := p34
        have ez34 := ez34.symm
        have fz34 := fz34.symm
        subst ez34 fz34
        refine v_bif_eq (n' := 40) (tgt := 45) h dX2_replay_37 rfl rfl (fun c37 => ?_) (fun c37 => ?_)
        · refine v_aload_n (n' := 46) h dX2_replay_45 rfl rfl ?_
          refine v_iload_n (n' := 47) h dX2_replay_46 rfl rfl ?_
          refine v_iload_n (n' := 48) h dX2_replay_47 rfl rfl ?_
          refine v_iload_n (n' := 49) h dX2_replay_48 rfl rfl ?_
          refine vm_callI (n' := 52) h hok m34 (m_replayOf _ _ _ hR hI c37 a b what c27 c17) rfl (lw_V q1313 q1315 qs73 q87 q1316) hdX2_replayOf (by decide) ⟨Nat.zero_le _, Nat.zero_le _⟩ (Nat.le_of_ble_eq_true rfl) dX2_replay_49 rfl rfl (fun z49 s49 p49 m49 => ?_)
          obtain ⟨p1, p2, -⟩ := p49
          refine v_iret h hq dX2_replay_52 (Nat.le_refl _) (Nat.le_refl _) (ret_mi m49 ?_)
          exact ⟨by unfold oReplay; rw [if_neg (fun z => z ⟨c9, c17, c27⟩), if_neg c37]; exact p1, p2⟩
        · refine v_bipush (n' := 42) h dX2_replay_40 rfl (by decide) ?_
          refine v_goto (tgt := 52) h dX2_replay_42 rfl ?_
          refine v_iret h hq dX2_replay_52 (Nat.le_refl _) (Nat.le_refl _) (ret_mi m34 ?_)
          exact ⟨by unfold oReplay; rw [if_neg (fun z => z ⟨c9, c17, c27⟩), if_pos c37], hR⟩
      · refine v_bipush (n' := 32) h dX2_replay_30 rfl (by decide) ?_
        refine v_iret h hq dX2_replay_32 (Nat.le_refl _) (Nat.le_refl _) (ret_mi hm ?_)
        exact ⟨by unfold oReplay; rw [if_pos (fun z => c27 z.2.2)], hR⟩
/-! ahead -/
noncomputable def ahV (a b fee : Int) : Nat → Tre → Int → Int
  | 0, _, _ => -1
  | f + 1, te, sum => if tz te.1 = 0 then -1 else if (levR a b te.2.1 te.1 (tmin te.1 0)).2.1 = 0 then ahV a b fee f (teLeave a b fee te (tmin te.1 0)) (sum + 1) else sum + 1
theorem m_aheadOf_loop {Γ : GX} {s : SS} {n : Int} {ad : Nat → Nat} {res hh : Int} (hok : AdOk ad) (hI : SInv s n) (h0 : ¬ sSh s = 0) (h : Ok0 cX2_aheadOf yX2_aheadOf.cls (some .int) (rmL 6) Γ) (hq : Rt (PI ad (fun z σ' => z = res ∧ MRel σ' s ∧ σ'.1 49 = hh)) 0 0 Γ) :
    ∀ (m : Nat) (te : Tre) (σ : MS) (sum : Int) (key : Nat), tz te.1 ≤ m → m ≤ 40 → (0 ≤ sum ∧ sum + (m : Int) ≤ 40) → MR σ → MRel σ s → RelT σ 1 te → σ.1 16 = sA s → σ.1 17 = sB s → TeB te (450 * sum) → key ≤ 100 → (∀ x ∈ tl te.1, key ≤ x) → ahV (sA s) (sB s) (sF s) (m + 1) te sum = res → σ.1 49 = hh → V Γ 0 0 (mH ad σ) 8 [some (.ref (ad 50)), some (.int (iI sum)), some (.int (iI (key : Int)))] [] := by
  have hrat := hI.rat h0
  intro m
  induction m with
  | zero =>
    intro te σ sum key hz hm40 hsum hm hR hT h16 h17 hB hk100 hk hres h49
    obtain ⟨u1, u7, -⟩ := hT
    have e0 : tz te.1 = 0 := by omega
    unfold ahV at hres
    rw [if_pos e0] at hres
    refine v_aload_n (n' := 9) h dX2_aheadOf_8 rfl rfl ?_
    refine vm_geta (n' := 12) h 7 (by decide) q944 dX2_aheadOf_9 rfl ?_
    refine v_iconst (n' := 13) h dX2_aheadOf_12 rfl ?_
    refine vm_iald (n' := 14) h hok hm 7 2 (by decide) dX2_aheadOf_13 rfl (by omega) (by decide) (fun g13 => ?_)
    refine v_if_le (n' := 17) (tgt := 53) h dX2_aheadOf_14 rfl rfl (by omega) (fun c14 => ?_) (fun c14 => ?_)
    · refine v_iconst (n' := 54) h dX2_aheadOf_53 rfl ?_
      refine v_iret h hq dX2_aheadOf_54 (Nat.le_refl _) (Nat.le_refl _) (ret_mi hm ?_)
      exact ⟨hres, hR, h49⟩
    · exact absurd (show σ.2 7 1 ≤ 0 by omega) c14
  | succ m ih =>
    intro te σ sum key hz hm40 hsum hm hR hT h16 h17 hB hk100 hk hres h49
    have hT0 := hT
    obtain ⟨u1, u7, -⟩ := hT
    have hfee : 0 ≤ σ.1 18 ∧ σ.1 18 ≤ 9 := by rw [hR.2.2.2.2.2.1]; exact hrat.2
    have ef := hR.2.2.2.2.2.1
    by_cases e0 : tz te.1 = 0
    · unfold ahV at hres
      rw [if_pos e0] at hres
      refine v_aload_n (n' := 9) h dX2_aheadOf_8 rfl rfl ?_
      refine vm_geta (n' := 12) h 7 (by decide) q944 dX2_aheadOf_9 rfl ?_
      refine v_iconst (n' := 13) h dX2_aheadOf_12 rfl ?_
      refine vm_iald (n' := 14) h hok hm 7 2 (by decide) dX2_aheadOf_13 rfl (by omega) (by decide) (fun g13 => ?_)
      refine v_if_le (n' := 17) (tgt := 53) h dX2_aheadOf_14 rfl rfl (by omega) (fun c14 => ?_) (fun c14 => ?_)
      · refine v_iconst (n' := 54) h dX2_aheadOf_53 rfl ?_
        refine v_iret h hq dX2_aheadOf_54 (Nat.le_refl _) (Nat.le_refl _) (ret_mi hm ?_)
        exact ⟨hres, hR, h49⟩
      · exact absurd (show σ.2 7 1 ≤ 0 by omega) c14
    · have hne : te.1 ≠ .leaf () := fun z => e0 (by rw [z]; rfl)
      have hmin := tmin_mem' (d := 0) hne
      have hmle : ∀ x ∈ tl te.1, tmin te.1 0 ≤ x := fun x hx => tmin_le u1.2.2.2.1 hx
      unfold ahV at hres
      rw [if_neg e0] at hres
      have hm100 := u1.2.2.2.2.1 _ hmin
      generalize hmm : tmin te.1 0 = mm at hres hmin hmle hm100
      -- seek the least
      have seek : ∀ (d j : Nat), j + d = mm → V Γ 0 0 (mH ad σ) 17 [some (.ref (ad 50)), some (.int (iI sum)), some (.int (iI (j : Int)))] [] := by
        intro d
        induction d with
        | zero =>
          intro j hj
          obtain rfl : j = mm := by omega
          have hth := u1.2.2.1 j hm100
          rw [if_pos hmin, show 100 * (1 : Int) + (j : Int) = 100 + (j : Int) by omega] at hth
          refine v_aload_n (n' := 18) h dX2_aheadOf_17 rfl rfl ?_
          refine vm_geta (n' := 21) h 5 (by decide) q942 dX2_aheadOf_18 rfl ?_
          refine v_bipush (n' := 23) h dX2_aheadOf_21 rfl (by decide) ?_
          refine v_iload_n (n' := 24) h dX2_aheadOf_23 rfl rfl ?_
          refine v_iadd (n' := 25) h dX2_aheadOf_24 rfl ?_
          refine vm_iald (n' := 26) h hok hm 5 200 (by decide) dX2_aheadOf_25 rfl (by omega) (by decide) (fun g25 => ?_)
          refine v_if_ne (n' := 29) (tgt := 35) h dX2_aheadOf_26 rfl rfl (by omega) (fun c26 => ?_) (fun c26 => ?_)
          · refine v_aload_n (n' := 36) h dX2_aheadOf_35 rfl rfl ?_
            refine v_iconst (n' := 37) h dX2_aheadOf_36 rfl ?_
            refine v_iload_n (n' := 38) h dX2_aheadOf_37 rfl rfl ?_
            refine vm_callV (n' := 41) h hok hm (m_leaveT _ 1 (Or.inr rfl) te hT0 (hB.le (by omega)) j hmin (sA s) (sB s) (hR.h19 hI) hfee (by rw [if_neg (by decide)]; exact h16) (by rw [if_neg (by decide)]; exact h17) hrat.1) rfl (lw_V q1255 q1257 qs65 q87 q1258) hdX2_leave (by decide) ⟨Nat.zero_le _, Nat.zero_le _⟩ (Nat.le_of_ble_eq_true rfl) dX2_aheadOf_38 rfl rfl (fun s38 p38 m38 => ?_)
            obtain ⟨p1, p9, pF⟩ := p38
            rw [ef] at p1
            refine v_iinc1 (n' := 44) h dX2_aheadOf_41 rfl rfl ?_
            refine v_aload_n (n' := 45) h dX2_aheadOf_44 rfl rfl ?_
            refine vm_geti (n' := 48) h m38 9 (by decide) q946 dX2_aheadOf_45 rfl (fun g45 => ?_)
            refine v_if_le (n' := 51) (tgt := 8) h dX2_aheadOf_48 rfl rfl (by omega) (fun c48 => ?_) (fun c48 => ?_)
            · rw [if_pos (by omega)] at hres
              refine ih _ s38 (sum + 1) j ?_ (by omega) (by omega) m38 (pF.MRel1 hR) p1 (by rw [pF.1 16 (by decide) (by decide)]; exact h16) (by rw [pF.1 17 (by decide) (by decide)]; exact h17) ((teLeave_B hB (by omega) (by omega) (by omega) hrat.2).le (by omega)) (by omega) (fun x hx => ?_) hres (by rw [pF.1 49 (by decide) (by decide)]; exact h49)
              · show tz (levR (sA s) (sB s) te.2.1 te.1 j).1 ≤ m
                rw [tz_tl levR_tl]
                have := del_tz u1.2.2.2.1 hmin
                omega
              · have hx : x ∈ tl (levR (sA s) (sB s) te.2.1 te.1 j).1 := hx
                rw [levR_tl] at hx
                exact hmle x ((del_mem u1.2.2.2.1).mp hx).1
            · refine v_iload_n (n' := 52) h dX2_aheadOf_51 rfl rfl ?_
              refine v_iret h hq dX2_aheadOf_52 (Nat.le_refl _) (Nat.le_refl _) (ret_mi m38 ?_)
              rw [if_neg (by omega)] at hres
              exact ⟨hres, pF.MRel1 hR, by rw [pF.1 49 (by decide) (by decide)]; exact h49⟩
          · exact absurd c26 (by omega)
        | succ d ihd =>
          intro j hj
          have hth := u1.2.2.1 j (by omega)
          rw [if_neg (fun z => by have := hmle j z; omega), show 100 * (1 : Int) + (j : Int) = 100 + (j : Int) by omega] at hth
          have ihd := ihd (j + 1) (by omega)
          rw [show ((j + 1 : Nat) : Int) = (j : Int) + 1 by omega] at ihd
          refine v_aload_n (n' := 18) h dX2_aheadOf_17 rfl rfl ?_
          refine vm_geta (n' := 21) h 5 (by decide) q942 dX2_aheadOf_18 rfl ?_
          refine v_bipush (n' := 23) h dX2_aheadOf_21 rfl (by decide) ?_
          refine v_iload_n (n' := 24) h dX2_aheadOf_23 rfl rfl ?_
          refine v_iadd (n' := 25) h dX2_aheadOf_24 rfl ?_
          refine vm_iald (n' := 26) h hok hm 5 200 (by decide) dX2_aheadOf_25 rfl (by omega) (by decide) (fun g25 => ?_)
          refine v_if_ne (n' := 29) (tgt := 35) h dX2_aheadOf_26 rfl rfl (by omega) (fun c26 => ?_) (fun c26 => ?_)
          · exact absurd hth c26
          · refine v_iinc2 (n' := 32) h dX2_aheadOf_29 rfl rfl ?_
            refine v_goto (tgt := 17) h dX2_aheadOf_32 rfl ?_
            exact ihd
      refine v_aload_n (n' := 9) h dX2_aheadOf_8 rfl rfl ?_
      refine vm_geta (n' := 12) h 7 (by decide) q944 dX2_aheadOf_9 rfl ?_
      refine v_iconst (n' := 13) h dX2_aheadOf_12 rfl ?_
      refine vm_iald (n' := 14) h hok hm 7 2 (by decide) dX2_aheadOf_13 rfl (by omega) (by decide) (fun g13 => ?_)
      refine v_if_le (n' := 17) (tgt := 53) h dX2_aheadOf_14 rfl rfl (by omega) (fun c14 => ?_) (fun c14 => ?_)
      · exact absurd c14 (by omega)
      · exact seek (mm - key) key (by have := hk mm hmin; omega)
noncomputable def aheadV (s : SS) : Int := ahV (sA s) (sB s) (sF s) (tz (sC s).1.1 + 1) ((sC s).1.1, (sC s).1.2.1, 0, 0, (0, 0)) 0
theorem m_aheadOf (σ : MS) (s : SS) (n : Int) (hR : MRel σ s) (hI : SInv s n) (h0 : ¬ sSh s = 0) : MCi yX2_aheadOf cX2_aheadOf 3 (some .int) 6 [] σ (fun z σ' => z = aheadV s ∧ MRel σ' s ∧ σ'.1 49 = σ.1 49) := by
  intro ad hok hm
  have hF := begin_Fb (σ := σ)
  have hT1 := begin_RelT hR.2.2.2.2.2.2.1.1 (0, 0)
  obtain ⟨e16, e17⟩ := begin_16 (σ := σ)
  have hz := hI.2.2.2.2.1.2.2.1
  refine Ct.of (by decide) (EL.c1 rfl (EL.nn (EL.nn EL.n0))) (fun Γ h hq hnm => ?_)
  refine v_aload_n (n' := 1) h dX2_aheadOf_0 rfl rfl ?_
  refine vm_callV (n' := 4) h hok hm (m_begin _) rfl (lw_V q1297 q1299 qs71 q87 q1300) hdX2_begin (by decide) ⟨Nat.zero_le _, Nat.zero_le _⟩ (Nat.le_of_ble_eq_true rfl) dX2_aheadOf_1 rfl rfl (fun s1 p1 m1 => ?_)
  have p1 := p1.symm
  subst p1
  refine v_iconst (n' := 5) h dX2_aheadOf_4 rfl ?_
  refine v_istore1 (n' := 6) h dX2_aheadOf_5 rfl rfl ?_
  refine v_iconst (n' := 7) h dX2_aheadOf_6 rfl ?_
  refine v_istore2 (n' := 8) h dX2_aheadOf_7 rfl rfl ?_
  exact m_aheadOf_loop hok hI h0 h hq _ ((sC s).1.1, (sC s).1.2.1, 0, 0, (0, 0)) _ 0 0 (Nat.le_refl _) hz (by dsimp only; omega) m1 (hF.MRel hR) hT1 (by rw [e16]; exact hR.2.2.2.1) (by rw [e17]; exact hR.2.2.2.2.1) (hI.tb.b0 (by decide)) (by omega) (fun _ _ => Nat.zero_le _) rfl rfl
noncomputable def oAhead (s : SS) : Int := if sSh s = 0 then -103 else aheadV s
theorem m_ahead (σ : MS) (s : SS) (n : Int) (hR : MRel σ s) (hI : SInv s n) : MCi yX2_ahead cX2_ahead 1 (some .int) 7 [] σ (fun z σ' => z = oAhead s ∧ MRel σ' s) := by
  intro ad hok hm
  refine Ct.of (by decide) (EL.c1 rfl EL.n0) (fun Γ h hq hnm => ?_)
  refine v_aload_n (n' := 1) h dX2_ahead_0 rfl rfl ?_
  refine vm_callI (n' := 4) h hok hm (m_lacks _ _ _ hR hI) rfl (lw_V q1216 q1218 qs61 q87 q1219) hdX2_lacks (by decide) ⟨Nat.zero_le _, Nat.zero_le _⟩ (Nat.le_of_ble_eq_true rfl) dX2_ahead_1 rfl rfl (fun z1 s1 p1 m1 => ?_)
  obtain ⟨ez1, fz1⟩ := p1
  have ez1 := ez1.symm
  have fz1 := fz1.symm
  subst ez1 fz1
  refine v_bif_eq (n' := 7) (tgt := 12) h dX2_ahead_4 rfl rfl (fun c4 => ?_) (fun c4 => ?_)
  · refine v_aload_n (n' := 13) h dX2_ahead_12 rfl rfl ?_
    refine vm_callI (n' := 16) h hok m1 (m_aheadOf _ _ _ hR hI c4) rfl (lw_V q1321 q1323 qs74 q87 q1324) hdX2_aheadOf (by decide) ⟨Nat.zero_le _, Nat.zero_le _⟩ (Nat.le_of_ble_eq_true rfl) dX2_ahead_13 rfl rfl (fun z13 s13 p13 m13 => ?_)
    obtain ⟨p1, p2, -⟩ := p13
    refine v_iret h hq dX2_ahead_16 (Nat.le_refl _) (Nat.le_refl _) (ret_mi m13 ?_)
    exact ⟨by unfold oAhead; rw [if_neg c4]; exact p1, p2⟩
  · refine v_bipush (n' := 9) h dX2_ahead_7 rfl (by decide) ?_
    refine v_goto (tgt := 16) h dX2_ahead_9 rfl ?_
    refine v_iret h hq dX2_ahead_16 (Nat.le_refl _) (Nat.le_refl _) (ret_mi m1 ?_)
    exact ⟨by unfold oAhead; rw [if_pos c4], hR⟩
