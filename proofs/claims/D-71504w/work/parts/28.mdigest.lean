/-! MODEL 18: the digest -/
set_option maxRecDepth 100000
def sayF (h x : Int) : Int := 31 * h + x
theorem m_say (σ : MS) (x : Int) : MCv yX2_say cX2_say 3 none 1 [.long (lI x)] σ (fun σ' => σ' = setI σ 49 (sayF (σ.1 49) x)) := by
  intro ad hok hm
  refine Ct.of (by decide) (EL.c1 rfl (EL.c2 rfl EL.n0)) (fun Γ h hq hnm => ?_)
  refine v_aload_n (n' := 1) h dX2_say_0 rfl rfl ?_
  refine v_ldc2 (n' := 4) (z := 31) h dX2_say_1 rfl q1394 (by decide) ?_
  refine v_aload_n (n' := 5) h dX2_say_4 rfl rfl ?_
  refine vm_getl (n' := 8) h q986 dX2_say_5 rfl ?_
  refine v_lmul (n' := 9) h dX2_say_8 rfl ?_
  refine v_lload_n (n' := 10) h dX2_say_9 rfl rfl ?_
  refine v_ladd (n' := 11) h dX2_say_10 rfl ?_
  refine vm_putl (n' := 14) h hm q986 dX2_say_11 rfl (fun m11 => ?_)
  refine v_vret h hq dX2_say_14 (Nat.le_refl _) (Nat.le_refl _) (ret_mv m11 ?_)
  rfl
theorem th_le (T : Tr) : th T + 1 ≤ (tz T : Int) := by
  induction T with
  | leaf u => show (-1 : Int) + 1 ≤ 0; omega
  | branch x l r ihl ihr =>
    show 1 + (if th l < th r then th r else th l) + 1 ≤ ((tz l + tz r + 1 : Nat) : Int)
    split <;> omega
theorem lch_r {T : Tr} {k : Nat} (hb : ∀ x ∈ tl T, x < 100) : (-1 ≤ lch T k ∧ lch T k < 100) ∧ (-1 ≤ rch T k ∧ rch T k < 100) := by
  have hm : ∀ x, x ∈ tl (sub T k) → x < 100 := fun x hx => hb x (sub_mem hx)
  unfold lch rch
  cases hs : sub T k with
  | leaf u => dsimp only; decide
  | branch y l r =>
    rw [hs] at hm
    exact ⟨rk_lt (fun x hx => hm x (mem_br.mpr (Or.inl hx))), rk_lt (fun x hx => hm x (mem_br.mpr (Or.inr (Or.inr hx))))⟩
theorem tellE_r {h : Shf} {B : Int} {k : Nat} {what : Int} (hh : ShOk h B) (hk : k ∈ tl h.1.1) : -1 ≤ tellE h k what ∧ tellE h k what ≤ 999 := by
  obtain ⟨h1, h2, h3, h4, h5, h6, h7⟩ := hh
  have a5 := h5 k hk
  have a1 := dep_le (T := h.1.1) (k := k)
  have a2 := sub_len (T := h.1.1) (k := k)
  have a3 := lch_r (k := k) h2
  have a4 := prt_r h1 hk h2
  have a6 := less_len (T := h.1.1) (k := k)
  have a7 : lessN h.1.1 k = ((less h.1.1 k).length : Int) := rfl
  unfold tellE
  repeat' split
  all_goals omega
theorem ledg_r {a b : Int} {te : Tre} {what : Int} (hz : tz te.1 ≤ 40) (hB : TeB te 1000000) : -1000000 ≤ ledg a b te what ∧ ledg a b te what ≤ 1100000 := by
  obtain ⟨b1, b2, b3, b4, b5⟩ := hB
  have t1 := th_le te.1
  have t2 := th_ge te.1
  have l1 : lim a b (tz te.1 : Int) ≤ 17 + 0 := limF_le 17 0 _ _ _
  unfold ledg
  repeat' split
  all_goals omega
theorem rp_inv {a b fee : Int} (hf : 0 ≤ fee ∧ fee ≤ 9) : ∀ (lg : List Int) (S : List Nat) (te : Tre) (B : Int), 0 ≤ B → Srt te.1 → S.Perm (tl te.1) → tz te.1 ≤ 40 → TeB te B → lvalid S lg → Srt (lg.foldl (rpStep a b fee) te).1 ∧ (lg.foldl lstep S).Perm (tl (lg.foldl (rpStep a b fee) te).1) ∧ tz (lg.foldl (rpStep a b fee) te).1 ≤ 40 ∧ TeB (lg.foldl (rpStep a b fee) te) (B + 450 * (lg.length : Int)) := by
  intro lg
  induction lg with
  | nil => intro S te B hB hs hp hz hT _; exact ⟨hs, hp, hz, hT.le (by simp)⟩
  | cons x lg ih =>
    intro S te B hB hs hp hz hT hv
    obtain ⟨v1, v2⟩ := hv
    have hpp := step_perm (a := a) (b := b) (fee := fee) hs hp v1
    have hl := hp.length_eq
    rw [tz_len] at hl
    have st : Srt (rpStep a b fee te x).1 ∧ tz (rpStep a b fee te x).1 ≤ 40 ∧ TeB (rpStep a b fee te x) (B + 450) := by
      unfold rpStep
      by_cases c : x < 0
      · rw [if_pos c] at v1 ⊢
        have hk := hp.mem_iff.mp v1.1
        have e : tl (teLeave a b fee te (-1 - x).toNat).1 = tl (del te.1 (-1 - x).toNat) := levR_tl
        have e1 := del_tz hs hk
        refine ⟨?_, by rw [tz_tl e]; omega, teLeave_B hT hB hz (by omega) hf⟩
        have := del_srt (k := (-1 - x).toNat) hs
        unfold Srt at this ⊢
        rw [e]
        exact this
      · rw [if_neg c] at v1 ⊢
        have hk : x.toNat ∉ tl te.1 := fun z => v1.2.1 (hp.mem_iff.mpr z)
        have e : tl (teEnter a b fee te x.toNat).1 = tl (ins te.1 x.toNat) := entR_tl hs hk
        exact ⟨entR_srt hs hk, by rw [tz_tl e, ins_tz]; omega, teEnter_B hT hB (by omega) hf⟩
    obtain ⟨i1, i2, i3, i4⟩ := ih (lstep S x) (rpStep a b fee te x) (B + 450) (by omega) st.1 hpp st.2.1 st.2.2 v2
    exact ⟨i1, i2, i3, i4.le (by simp only [List.length_cons]; omega)⟩
theorem te0_B : TeB te0 0 := by
  unfold TeB te0
  decide
theorem replayV_r {a b fee what : Int} {lg : List Int} (hf : 0 ≤ fee ∧ fee ≤ 9) (hv : lvalid [] lg) (hl : lg.length ≤ 60) : -1 ≤ replayV a b fee lg what ∧ replayV a b fee lg what ≤ 27000 := by
  obtain ⟨i1, i2, i3, i4⟩ := rp_inv (a := a) (b := b) hf lg [] te0 0 (Int.le_refl _) List.Pairwise.nil (List.Perm.refl _) (Nat.zero_le _) te0_B hv
  have t1 := th_le (rpTe a b fee lg).1
  have t2 := th_ge (rpTe a b fee lg).1
  have i3 : tz (rpTe a b fee lg).1 ≤ 40 := i3
  have i5 : 0 ≤ (rpTe a b fee lg).2.2.2.1 ∧ (rpTe a b fee lg).2.2.2.1 ≤ 0 + 450 * (lg.length : Int) := i4.2.2.1
  unfold replayV
  split <;> omega
theorem ahV_r {a b fee : Int} : ∀ (f : Nat) (te : Tre) (sum : Int), 0 ≤ sum → -1 ≤ ahV a b fee f te sum ∧ ahV a b fee f te sum ≤ sum + (f : Int) := by
  intro f
  induction f with
  | zero => intro te sum h; unfold ahV; omega
  | succ f ih =>
    intro te sum h
    unfold ahV
    have := ih (teLeave a b fee te (tmin te.1 0)) (sum + 1) (by omega)
    repeat' split
    all_goals omega
/-- what a digest tells of a shelf -/
noncomputable def svL (s : SS) : List Int := (List.range 7).map (fun i : Nat => ledg (sA s) (sB s) (sC s).1 (i : Int)) ++ [if tz (sC s).1.1 = 40 then -1 else wouldV (sA s) (sB s) (sC s).1.1 50, aheadV s, replayV 2 3 (sF s) (sC s).2.2.2.1 0, replayV 2 3 (sF s) (sC s).2.2.2.1 1]
theorem MRel.h49 {σ : MS} {s : SS} {x : Int} (h : MRel σ s) : MRel (setI σ 49 x) s := (Fb.sI (by decide)).MRel h
theorem rat23 : isRat 2 3 := by
  unfold isRat
  decide
theorem m_sayShelf_52 {Γ : GX} {s : SS} {n : Int} {ad : Nat → Nat} {h0 h1 : Int} {w : Option Value} (hok : AdOk ad) (hI : SInv s n) (hS : ¬ sSh s = 0) (h : Ok0 cX2_sayShelf yX2_sayShelf.cls none (rmL 7) Γ) (hq : Rt (PV ad (fun σ' => MRel σ' s ∧ σ'.1 49 = (svL s).foldl sayF h0)) 0 0 Γ)
    (σ : MS) (hm : MR σ) (hR : MRel σ s) (hh : σ.1 49 = h1) (hf : (svL s).foldl sayF h0 = [aheadV s, replayV 2 3 (sF s) (sC s).2.2.2.1 0, replayV 2 3 (sF s) (sC s).2.2.2.1 1].foldl sayF h1) : V Γ 0 0 (mH ad σ) 52 [some (.ref (ad 50)), w] [] := by
  have hl := hI.2.2.2.2.1.2.2.2.2.2.1.1
  have hz := hI.2.2.2.2.1.2.2.1
  have hl2 := hR.2.2.2.2.2.2.1.2.2.1.2.1
  have hrat := hI.rat hS
  have r1 := replayV_r (a := 2) (b := 3) (what := 0) hrat.2 hl hl2
  have r2 := replayV_r (a := 2) (b := 3) (what := 1) hrat.2 hl hl2
  have r3 := ahV_r (a := sA s) (b := sB s) (fee := sF s) (tz (sC s).1.1 + 1) ((sC s).1.1, (sC s).1.2.1, 0, 0, (0, 0)) 0 (Int.le_refl _)
  have r4 : aheadV s = ahV (sA s) (sB s) (sF s) (tz (sC s).1.1 + 1) ((sC s).1.1, (sC s).1.2.1, 0, 0, (0, 0)) 0 := rfl
  rw [← r4] at r3
  refine v_aload_n (n' := 53) h dX2_sayShelf_52 rfl rfl ?_
  refine v_aload_n (n' := 54) h dX2_sayShelf_53 rfl rfl ?_
  refine vm_callI (n' := 57) h hok hm (m_aheadOf _ _ _ hR hI hS) rfl (lw_V q1321 q1323 qs74 q87 q1324) hdX2_aheadOf (by decide) ⟨Nat.zero_le _, Nat.zero_le _⟩ (Nat.le_of_ble_eq_true rfl) dX2_sayShelf_54 rfl rfl (fun z54 s54 p54 m54 => ?_)
  obtain ⟨p1, p2, p3⟩ := p54
  rw [p1]
  refine v_i2l (n' := 58) h dX2_sayShelf_57 rfl (by omega) ?_
  refine vm_callV (n' := 61) h hok m54 (m_say _ _) rfl (lw_V q1390 q1392 qs79 q87 q1393) hdX2_say (by decide) ⟨Nat.zero_le _, Nat.zero_le _⟩ (Nat.le_of_ble_eq_true rfl) dX2_sayShelf_58 rfl rfl (fun s58 p58 m58 => ?_)
  have p58 := p58.symm
  subst p58
  refine v_aload_n (n' := 62) h dX2_sayShelf_61 rfl rfl ?_
  refine v_aload_n (n' := 63) h dX2_sayShelf_62 rfl rfl ?_
  refine v_iconst (n' := 64) h dX2_sayShelf_63 rfl ?_
  refine v_iconst (n' := 65) h dX2_sayShelf_64 rfl ?_
  refine v_iconst (n' := 66) h dX2_sayShelf_65 rfl ?_
  refine vm_callI (n' := 69) h hok m58 (m_replayOf _ _ _ (MRel.h49 p2) hI hS 2 3 0 (by omega) rat23) rfl (lw_V q1313 q1315 qs73 q87 q1316) hdX2_replayOf (by decide) ⟨Nat.zero_le _, Nat.zero_le _⟩ (Nat.le_of_ble_eq_true rfl) dX2_sayShelf_66 rfl rfl (fun z66 s66 p66 m66 => ?_)
  obtain ⟨p4, p5, p6⟩ := p66
  rw [p4]
  refine v_i2l (n' := 70) h dX2_sayShelf_69 rfl (by omega) ?_
  refine vm_callV (n' := 73) h hok m66 (m_say _ _) rfl (lw_V q1390 q1392 qs79 q87 q1393) hdX2_say (by decide) ⟨Nat.zero_le _, Nat.zero_le _⟩ (Nat.le_of_ble_eq_true rfl) dX2_sayShelf_70 rfl rfl (fun s70 p70 m70 => ?_)
  have p70 := p70.symm
  subst p70
  refine v_aload_n (n' := 74) h dX2_sayShelf_73 rfl rfl ?_
  refine v_aload_n (n' := 75) h dX2_sayShelf_74 rfl rfl ?_
  refine v_iconst (n' := 76) h dX2_sayShelf_75 rfl ?_
  refine v_iconst (n' := 77) h dX2_sayShelf_76 rfl ?_
  refine v_iconst (n' := 78) h dX2_sayShelf_77 rfl ?_
  refine vm_callI (n' := 81) h hok m70 (m_replayOf _ _ _ (MRel.h49 p5) hI hS 2 3 1 (by omega) rat23) rfl (lw_V q1313 q1315 qs73 q87 q1316) hdX2_replayOf (by decide) ⟨Nat.zero_le _, Nat.zero_le _⟩ (Nat.le_of_ble_eq_true rfl) dX2_sayShelf_78 rfl rfl (fun z78 s78 p78 m78 => ?_)
  obtain ⟨p7, p8, p9⟩ := p78
  rw [p7]
  refine v_i2l (n' := 82) h dX2_sayShelf_81 rfl (by omega) ?_
  refine vm_callV (n' := 85) h hok m78 (m_say _ _) rfl (lw_V q1390 q1392 qs79 q87 q1393) hdX2_say (by decide) ⟨Nat.zero_le _, Nat.zero_le _⟩ (Nat.le_of_ble_eq_true rfl) dX2_sayShelf_82 rfl rfl (fun s82 p82 m82 => ?_)
  have p82 := p82.symm
  subst p82
  refine v_vret h hq dX2_sayShelf_85 (Nat.le_refl _) (Nat.le_refl _) (ret_mv m82 ?_)
  refine ⟨MRel.h49 p8, ?_⟩
  rw [hf, setI_1s, p9, setI_1s, p6, setI_1s, p3, hh]
  rfl
theorem m_sayShelf_loop {Γ : GX} {s : SS} {n : Int} {ad : Nat → Nat} {h0 : Int} (hok : AdOk ad) (hI : SInv s n) (hS : ¬ sSh s = 0) (h : Ok0 cX2_sayShelf yX2_sayShelf.cls none (rmL 7) Γ) (hq : Rt (PV ad (fun σ' => MRel σ' s ∧ σ'.1 49 = (svL s).foldl sayF h0)) 0 0 Γ) :
    ∀ (m j : Nat) (σ : MS), j + m = 7 → MR σ → MRel σ s → σ.1 49 = ((List.range j).map (fun i : Nat => ledg (sA s) (sB s) (sC s).1 (i : Int))).foldl sayF h0 → V Γ 0 0 (mH ad σ) 2 [some (.ref (ad 50)), some (.int (iI (j : Int)))] [] := by
  have hz := hI.2.2.2.2.1.2.2.1
  intro m
  induction m with
  | zero =>
    intro j σ hj hm hR hh
    obtain rfl : j = 7 := by omega
    have h7 := hR.2.2.2.2.2.2.1.1.2.1
    have wr1 := fun hz => wouldV_r (a := sA s) (b := sB s) (T := (sC s).1.1) (k := 50) hz
    have fin : ∀ x : Int, x = (if tz (sC s).1.1 = 40 then -1 else wouldV (sA s) (sB s) (sC s).1.1 50) → (svL s).foldl sayF h0 = [aheadV s, replayV 2 3 (sF s) (sC s).2.2.2.1 0, replayV 2 3 (sF s) (sC s).2.2.2.1 1].foldl sayF (sayF (σ.1 49) x) := by
      intro x hx
      unfold svL
      rw [List.foldl_append, ← hh, ← hx]
      rfl
    refine v_iload_n (n' := 3) h dX2_sayShelf_2 rfl rfl ?_
    refine v_bipush (n' := 5) h dX2_sayShelf_3 rfl (by decide) ?_
    refine v_icmp_ge (n' := 8) (tgt := 24) h dX2_sayShelf_5 rfl rfl (by omega) (by omega) (fun c5 => ?_) (fun c5 => ?_)
    · refine v_aload_n (n' := 25) h dX2_sayShelf_24 rfl rfl ?_
      refine v_aload_n (n' := 26) h dX2_sayShelf_25 rfl rfl ?_
      refine vm_geta (n' := 29) h 7 (by decide) q944 dX2_sayShelf_26 rfl ?_
      refine v_iconst (n' := 30) h dX2_sayShelf_29 rfl ?_
      refine vm_iald (n' := 31) h hok hm 7 2 (by decide) dX2_sayShelf_30 rfl (by omega) (by decide) (fun g30 => ?_)
      rw [h7] at g30 ⊢
      refine v_bipush (n' := 33) h dX2_sayShelf_31 rfl (by decide) ?_
      refine v_icmp_ne (n' := 36) (tgt := 42) h dX2_sayShelf_33 rfl rfl (by omega) (by omega) (fun c33 => ?_) (fun c33 => ?_)
      · refine v_aload_n (n' := 43) h dX2_sayShelf_42 rfl rfl ?_
        refine v_bipush (n' := 45) h dX2_sayShelf_43 rfl (by decide) ?_
        refine vm_callI (n' := 48) h hok hm (m_wouldOf _ _ _ hR hI hS (by omega) 50 (by omega)) rfl (lw_V q1293 q1295 qs70 q87 q1296) hdX2_wouldOf (by decide) ⟨Nat.zero_le _, Nat.zero_le _⟩ (Nat.le_of_ble_eq_true rfl) dX2_sayShelf_45 rfl rfl (fun z45 s45 p45 m45 => ?_)
        have wr1 := wr1 (by omega)
        obtain ⟨p1, p2, p3⟩ := p45
        rw [p1]
        refine v_i2l (n' := 49) h dX2_sayShelf_48 rfl (by omega) ?_
        refine vm_callV (n' := 52) h hok m45 (m_say _ _) rfl (lw_V q1390 q1392 qs79 q87 q1393) hdX2_say (by decide) ⟨Nat.zero_le _, Nat.zero_le _⟩ (Nat.le_of_ble_eq_true rfl) dX2_sayShelf_49 rfl rfl (fun s49 p49 m49 => ?_)
        have p49 := p49.symm
        subst p49
        exact m_sayShelf_52 hok hI hS h hq _ m49 (MRel.h49 p2) setI_1s (by rw [p3]; exact fin _ (by rw [if_neg (by omega)]))
      · refine v_ldc2 (n' := 39) (z := -1) h dX2_sayShelf_36 rfl q1399 (by decide) ?_
        refine v_goto (tgt := 49) h dX2_sayShelf_39 rfl ?_
        refine vm_callV (n' := 52) h hok hm (m_say _ _) rfl (lw_V q1390 q1392 qs79 q87 q1393) hdX2_say (by decide) ⟨Nat.zero_le _, Nat.zero_le _⟩ (Nat.le_of_ble_eq_true rfl) dX2_sayShelf_49 rfl rfl (fun s49 p49 m49 => ?_)
        have p49 := p49.symm
        subst p49
        exact m_sayShelf_52 hok hI hS h hq _ m49 (MRel.h49 hR) setI_1s (fin _ (by rw [if_pos (by omega)]))
    · exact absurd (by decide) c5
  | succ m ih =>
    intro j σ hj hm hR hh
    have lr := ledg_r (a := sA s) (b := sB s) (te := (sC s).1) (what := (j : Int)) hz hI.tb
    refine v_iload_n (n' := 3) h dX2_sayShelf_2 rfl rfl ?_
    refine v_bipush (n' := 5) h dX2_sayShelf_3 rfl (by decide) ?_
    refine v_icmp_ge (n' := 8) (tgt := 24) h dX2_sayShelf_5 rfl rfl (by omega) (by omega) (fun c5 => ?_) (fun c5 => ?_)
    · exact absurd c5 (by omega)
    · refine v_aload_n (n' := 9) h dX2_sayShelf_8 rfl rfl ?_
      refine v_aload_n (n' := 10) h dX2_sayShelf_9 rfl rfl ?_
      refine v_iload_n (n' := 11) h dX2_sayShelf_10 rfl rfl ?_
      refine vm_callI (n' := 14) h hok hm (m_ledgerOf _ _ _ hR hI hS _ (by omega)) rfl (lw_V q1280 q1282 qs68 q87 q1283) hdX2_ledgerOf (by decide) ⟨Nat.zero_le _, Nat.zero_le _⟩ (Nat.le_of_ble_eq_true rfl) dX2_sayShelf_11 rfl rfl (fun z11 s11 p11 m11 => ?_)
      obtain ⟨ez11, fz11⟩ := p11
      have ez11 := ez11.symm
      have fz11 := fz11.symm
      subst ez11 fz11
      refine v_i2l (n' := 15) h dX2_sayShelf_14 rfl (by omega) ?_
      refine vm_callV (n' := 18) h hok m11 (m_say _ _) rfl (lw_V q1390 q1392 qs79 q87 q1393) hdX2_say (by decide) ⟨Nat.zero_le _, Nat.zero_le _⟩ (Nat.le_of_ble_eq_true rfl) dX2_sayShelf_15 rfl rfl (fun s15 p15 m15 => ?_)
      have p15 := p15.symm
      subst p15
      refine v_iinc1 (n' := 21) h dX2_sayShelf_18 rfl rfl ?_
      refine v_goto (tgt := 2) h dX2_sayShelf_21 rfl ?_
      have := ih (j + 1) _ (by omega) m15 (MRel.h49 hR) (by rw [setI_1s, hh, List.range_succ, List.map_append, List.foldl_append]; rfl)
      rw [show ((j + 1 : Nat) : Int) = (j : Int) + 1 by omega] at this
      exact this
theorem m_sayShelf (σ : MS) (s : SS) (n : Int) (hR : MRel σ s) (hI : SInv s n) (hS : ¬ sSh s = 0) : MCv yX2_sayShelf cX2_sayShelf 2 none 7 [] σ (fun σ' => MRel σ' s ∧ σ'.1 49 = (svL s).foldl sayF (σ.1 49)) := by
  intro ad hok hm
  refine Ct.of (by decide) (EL.c1 rfl (EL.nn EL.n0)) (fun Γ h hq hnm => ?_)
  have lp := m_sayShelf_loop (h0 := σ.1 49) hok hI hS h hq 7 0 σ (by omega) hm hR rfl
  refine v_iconst (n' := 1) h dX2_sayShelf_0 rfl ?_
  refine v_istore1 (n' := 2) h dX2_sayShelf_1 rfl rfl ?_
  exact lp
