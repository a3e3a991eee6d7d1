/-! MODEL 12: what would be -/
set_option maxRecDepth 100000
theorem mn_r {a b B : Int} (h1 : -B ≤ a ∧ a ≤ B) (h2 : -B ≤ b ∧ b ≤ B) : -B ≤ mn a b ∧ mn a b ≤ B := by
  unfold mn
  split <;> assumption
theorem payN_r {p : PN} {so B C : Int} (h1 : -B ≤ p.1 ∧ p.1 ≤ B) (h2 : -B ≤ p.2 ∧ p.2 ≤ B) (hs : -C ≤ so ∧ so ≤ C) : (-(B + C) ≤ (payN p so).1 ∧ (payN p so).1 ≤ B + C) ∧ (-(B + C) ≤ (payN p so).2 ∧ (payN p so).2 ≤ B + C) := by
  unfold payN
  refine ⟨by dsimp only; omega, mn_r (by omega) (by omega)⟩
theorem fee_r {fee d : Int} (hf : 0 ≤ fee ∧ fee ≤ 9) (hd : 0 ≤ d ∧ d ≤ 41) : 0 ≤ fee * d ∧ fee * d ≤ 400 := by
  have : fee = 0 ∨ fee = 1 ∨ fee = 2 ∨ fee = 3 ∨ fee = 4 ∨ fee = 5 ∨ fee = 6 ∨ fee = 7 ∨ fee = 8 ∨ fee = 9 := by omega
  rcases this with e | e | e | e | e | e | e | e | e | e <;> rw [e] <;> omega
theorem entR_b40 {a b : Int} {T : Tr} {k : Nat} (hz : tz T < 40) : (entR a b T k).2 ≤ 40 := by
  by_cases c : (dep (ins T k) k : Int) ≤ (lim a b ((tz T : Int) + 1) : Int)
  · rw [entR_a c]; exact Nat.zero_le _
  · cases hsc : scp a b (ins T k) (way (ins T k) k).reverse with
    | none => rw [entR_b c hsc]; exact Nat.zero_le _
    | some x =>
      rw [entR_c c hsc]
      have := sub_len (T := ins T k) (k := x)
      rw [ins_tz] at this
      dsimp only
      omega
theorem bn_r (n : Nat) : 0 ≤ bn n ∧ bn n ≤ 1 := by
  unfold bn
  split <;> omega
theorem teEnter_B {a b fee B : Int} {te : Tre} {k : Nat} (hB : TeB te B) (hB0 : 0 ≤ B) (hz : tz te.1 < 40) (hf : 0 ≤ fee ∧ fee ≤ 9) : TeB (teEnter a b fee te k) (B + 450) := by
  obtain ⟨b1, b2, b3, b4, b5⟩ := hB
  have h40 := entR_b40 (a := a) (b := b) (T := te.1) (k := k) hz
  have hbn := bn_r (entR a b te.1 k).2
  have hd := dep_le (T := ins te.1 k) (k := k)
  rw [ins_tz] at hd
  have hfee := fee_r (d := (dep (ins te.1 k) k : Int) + 1) hf (by omega)
  have hp1 := payN_r (so := fee * ((dep (ins te.1 k) k : Int) + 1)) (C := 400) b4 b5 (by omega)
  have hp2 := payN_r (so := 0 - ((entR a b te.1 k).2 : Int)) (C := 40) hp1.1 hp1.2 (by omega)
  refine ⟨?_, ?_, ?_, ?_⟩
  · show 0 ≤ mx _ _ ∧ mx _ _ ≤ 40
    unfold mx
    split <;> omega
  · show 0 ≤ te.2.2.1 + _ ∧ te.2.2.1 + _ ≤ _
    omega
  · show 0 ≤ te.2.2.2.1 + _ ∧ te.2.2.2.1 + _ ≤ _
    omega
  · show (_ ≤ (entM fee a b te.1 k te.2.2.2.2).1 ∧ (entM fee a b te.1 k te.2.2.2.2).1 ≤ _) ∧ (_ ≤ (entM fee a b te.1 k te.2.2.2.2).2 ∧ (entM fee a b te.1 k te.2.2.2.2).2 ≤ _)
    unfold entM
    dsimp only
    split <;> omega
theorem levR_b40 {a b most : Int} {T : Tr} {k : Nat} (hz : tz T ≤ 40) (hm : 0 ≤ most ∧ most ≤ 40) (h1 : 1 ≤ tz T) : (levR a b most T k).2.1 ≤ 40 ∧ 0 ≤ (levR a b most T k).2.2 ∧ (levR a b most T k).2.2 ≤ 40 := by
  by_cases c : levC a b most T
  · rw [levR_a c]; dsimp only; omega
  · rw [levR_b c]; dsimp only; split <;> omega
theorem teLeave_B {a b fee B : Int} {te : Tre} {k : Nat} (hB : TeB te B) (hB0 : 0 ≤ B) (hz : tz te.1 ≤ 40) (h1 : 1 ≤ tz te.1) (hf : 0 ≤ fee ∧ fee ≤ 9) : TeB (teLeave a b fee te k) (B + 450) := by
  obtain ⟨b1, b2, b3, b4, b5⟩ := hB
  have h40 := levR_b40 (a := a) (b := b) (k := k) hz b1 h1
  have hbn := bn_r (levR a b te.2.1 te.1 k).2.1
  have hd := dep_le (T := te.1) (k := k)
  have hfee := fee_r (d := (dep te.1 k : Int) + 1) hf (by omega)
  have hp1 := payN_r (so := fee * ((dep te.1 k : Int) + 1)) (C := 400) b4 b5 (by omega)
  have hp2 := payN_r (so := 0 - ((levR a b te.2.1 te.1 k).2.1 : Int)) (C := 40) hp1.1 hp1.2 (by omega)
  refine ⟨h40.2, ?_, ?_, ?_⟩
  · show 0 ≤ te.2.2.1 + _ ∧ te.2.2.1 + _ ≤ _
    omega
  · show 0 ≤ te.2.2.2.1 + _ ∧ te.2.2.2.1 + _ ≤ _
    omega
  · show (_ ≤ (levM fee a b te.2.1 te.1 k te.2.2.2.2).1 ∧ (levM fee a b te.2.1 te.1 k te.2.2.2.2).1 ≤ _) ∧ (_ ≤ (levM fee a b te.2.1 te.1 k te.2.2.2.2).2 ∧ (levM fee a b te.2.1 te.1 k te.2.2.2.2).2 ≤ _)
    unfold levM
    dsimp only
    split <;> omega
/-- nothing but scratch was written -/
def Fb (σ σ' : MS) : Prop := (∀ f, f ≠ 9 → f ≠ 16 → f ≠ 17 → f ≠ 30 → f ≠ 49 → σ'.1 f = σ.1 f) ∧ ∀ f i, ¬ wr 1 f i → σ'.2 f i = σ.2 f i
theorem Fb.refl {σ : MS} : Fb σ σ := ⟨fun _ _ _ _ _ _ => rfl, fun _ _ _ => rfl⟩
theorem Fb.trans {a b c : MS} (h1 : Fb a b) (h2 : Fb b c) : Fb a c := ⟨fun f a1 a2 a3 a4 a5 => (h2.1 f a1 a2 a3 a4 a5).trans (h1.1 f a1 a2 a3 a4 a5), fun f i e => (h2.2 f i e).trans (h1.2 f i e)⟩
theorem Fr.b {σ σ' : MS} (h : Fr 1 σ σ') : Fb σ σ' := ⟨fun f a1 _ _ _ _ => h.1 f a1 (Or.inr (by decide)), h.2⟩
theorem Fb.sI {σ : MS} {f : Nat} {v : Int} (h : f = 9 ∨ f = 16 ∨ f = 17 ∨ f = 30 ∨ f = 49) : Fb σ (setI σ f v) := ⟨fun g a1 a2 a3 a4 a5 => setI_1n (by omega), fun _ _ _ => rfl⟩
theorem Fb.MRel {σ σ' : MS} {s : SS} (h : Fb σ σ') (hs : MRel σ s) : MRel σ' s := by
  obtain ⟨h0, h1, h2, h3, h4, h5, ⟨⟨u1, u7, u8, u10, u11, um⟩, r2, r3, r4⟩, h7, h8⟩ := hs
  have e1 : ∀ f, f ≠ 9 → f ≠ 16 → f ≠ 17 → f ≠ 30 → f ≠ 49 → σ'.1 f = σ.1 f := h.1
  refine ⟨fun i => by rw [h.2 0 i (by unfold wr; omega)]; exact h0 i, by rw [h.1 1 (by decide) (by decide) (by decide) (by decide) (by decide)]; exact h1, by rw [h.1 23 (by decide) (by decide) (by decide) (by decide) (by decide)]; exact h2, by rw [h.1 14 (by decide) (by decide) (by decide) (by decide) (by decide)]; exact h3, by rw [h.1 15 (by decide) (by decide) (by decide) (by decide) (by decide)]; exact h4, by rw [h.1 18 (by decide) (by decide) (by decide) (by decide) (by decide)]; exact h5, ⟨⟨?_, ?_, ?_, ?_, ?_, fun t0 => ?_⟩, r2.cg (fun f i a => h.2 f i (by unfold wr; omega)), r3.cg (fun i => h.2 21 i (by unfold wr; omega)) (h.1 22 (by decide) (by decide) (by decide) (by decide) (by decide)), r4.cg (fun i => h.2 29 i (by unfold wr; omega)) (h.1 28 (by decide) (by decide) (by decide) (by decide) (by decide))⟩, by rw [h.1 31 (by decide) (by decide) (by decide) (by decide) (by decide)]; exact h7, fun z => ksh_cg (h8 z) (fun f i a => h.2 f i (by unfold wr; omega)) (fun f a => h.1 f (by omega) (by omega) (by omega) (by omega) (by omega))⟩
  · obtain ⟨v1, v2, v3, v4, v5, v6⟩ := u1
    refine ⟨v1.cg (fun k hk => ?_), by rw [h.2 6 0 (by unfold wr; omega)]; exact v2, fun k hk => by rw [h.2 5 _ (by unfold wr; omega)]; exact v3 k hk, v4, v5, v6⟩
    have := v5 k hk
    exact ⟨h.2 2 _ (by unfold wr; omega), h.2 3 _ (by unfold wr; omega), h.2 4 _ (by unfold wr; omega)⟩
  · rw [h.2 7 0 (by unfold wr; omega)]; exact u7
  · rw [h.2 8 0 (by unfold wr; omega)]; exact u8
  · rw [h.2 10 0 (by unfold wr; omega)]; exact u10
  · rw [h.2 11 0 (by unfold wr; omega)]; exact u11
  · rw [h.1 19 (by decide) (by decide) (by decide) (by decide) (by decide), h.1 20 (by decide) (by decide) (by decide) (by decide) (by decide)]; exact um t0
theorem RepT.shift {σ σ' : MS} {T : Tr} (e : ∀ k ∈ tl T, ∀ f, f = 2 ∨ f = 3 ∨ f = 4 → σ'.2 f (100 * 1 + (k : Int)) = σ.2 f (100 * 0 + (k : Int))) : ∀ {on : Int}, RepT σ 0 on T → RepT σ' 1 on T := by
  induction T with
  | leaf u => intro on h; trivial
  | branch k l r ihl ihr =>
    intro on h
    obtain ⟨h1, h2, h3, h4, h5⟩ := h
    have e0 := e k (mem_br.mpr (Or.inr (Or.inl rfl)))
    exact ⟨by rw [e0 4 (by decide)]; exact h1, by rw [e0 2 (by decide)]; exact h2, by rw [e0 3 (by decide)]; exact h3, ihl (fun x hx => e x (mem_br.mpr (Or.inl hx))) h4, ihr (fun x hx => e x (mem_br.mpr (Or.inr (Or.inr hx)))) h5⟩
theorem cpS_hi {σ : MS} {f : Nat} {i : Int} (hf : 2 ≤ f ∧ f ≤ 5) (hi : 100 ≤ i ∧ i < 200) : (cpS σ 100).2 f i = σ.2 f (i - 100) := if_pos ⟨hf, by omega⟩
theorem beginS_2 {σ : MS} {f : Nat} {i : Int} (h : f ≠ 6 ∧ f ≠ 7 ∧ f ≠ 8 ∧ f ≠ 10 ∧ f ≠ 11) : (beginS σ).2 f i = (cpS σ 100).2 f i := by
  unfold beginS
  rw [setI_2, setI_2, setA_2o h.2.2.2.2, setA_2o h.2.2.2.1, setA_2o h.2.2.1, setA_2o h.2.1, setA_2o h.1]
theorem begin_Fb {σ : MS} : Fb σ (beginS σ) := by
  refine ⟨fun f a1 a2 a3 a4 a5 => by unfold beginS; rw [setI_1n a3, setI_1n a2]; rfl, fun f i e => ?_⟩
  by_cases c : f = 6 ∨ f = 7 ∨ f = 8 ∨ f = 10 ∨ f = 11
  · have hi : i ≠ 1 := fun z => e (by unfold wr; omega)
    unfold beginS
    rw [setI_2, setI_2, setA_2n hi, setA_2n hi, setA_2n hi, setA_2n hi, setA_2n hi]
    exact if_neg (by omega)
  · rw [beginS_2 (by omega)]
    exact if_neg (fun z => e (by unfold wr; omega))
theorem begin_RelT {σ : MS} {te : Tre} (h : RelT σ 0 te) (m : PN) : RelT (beginS σ) 1 (te.1, te.2.1, 0, 0, m) := by
  obtain ⟨⟨v1, v2, v3, v4, v5, v6⟩, u7, u8, u10, u11, um⟩ := h
  have a6 : (beginS σ).2 6 1 = σ.2 6 0 := by unfold beginS; rw [setI_2, setI_2, setA_2o (by decide), setA_2o (by decide), setA_2o (by decide), setA_2o (by decide), setA_2s]
  have a7 : (beginS σ).2 7 1 = σ.2 7 0 := by unfold beginS; rw [setI_2, setI_2, setA_2o (by decide), setA_2o (by decide), setA_2o (by decide), setA_2s]
  have a8 : (beginS σ).2 8 1 = σ.2 8 0 := by unfold beginS; rw [setI_2, setI_2, setA_2o (by decide), setA_2o (by decide), setA_2s]
  have a10 : (beginS σ).2 10 1 = 0 := by unfold beginS; rw [setI_2, setI_2, setA_2o (by decide), setA_2s]
  have a11 : (beginS σ).2 11 1 = 0 := by unfold beginS; rw [setI_2, setI_2, setA_2s]
  refine ⟨⟨v1.shift (fun k hk f hf => ?_), by rw [a6]; exact v2, fun k hk => ?_, v4, v5, v6⟩, by rw [a7]; exact u7, by rw [a8]; exact u8, a10, a11, fun z => by omega⟩
  · have := v5 k hk
    rw [beginS_2 (by omega), cpS_hi (by omega) (by omega)]
    exact congrArg (σ.2 f) (by omega)
  · rw [beginS_2 (by decide), cpS_hi (by omega) (by omega), ← v3 k hk]
    exact congrArg (σ.2 5) (by omega)
theorem begin_16 {σ : MS} : (beginS σ).1 16 = σ.1 14 ∧ (beginS σ).1 17 = σ.1 15 := by
  unfold beginS
  exact ⟨by rw [setI_1n (by decide), setI_1s], setI_1s⟩
theorem MRel.h19 {σ : MS} {s : SS} {n : Int} (hR : MRel σ s) (hI : SInv s n) : -100000000 ≤ σ.1 19 ∧ σ.1 19 ≤ 100000000 := by
  have := congrArg Prod.fst (hR.2.2.2.2.2.2.1.1.2.2.2.2.2 rfl)
  have hB4 := hI.tb.2.2.2.1
  dsimp only at this
  omega
noncomputable def wouldV (a b : Int) (T : Tr) (k : Nat) : Int := if k ∈ tl T then -1 else ((entR a b T k).2 : Int)
theorem TeB.b0 {te : Tre} {B : Int} (h : TeB te B) (hB : 0 ≤ B) : TeB (te.1, te.2.1, 0, 0, (0, 0)) 0 := by
  obtain ⟨b1, -⟩ := h
  unfold TeB
  dsimp only
  omega
theorem m_wouldOf (σ : MS) (s : SS) (n : Int) (hR : MRel σ s) (hI : SInv s n) (h0 : ¬ sSh s = 0) (hz : tz (sC s).1.1 < 40) (k : Nat) (hk : k < 100) : MCi yX2_wouldOf cX2_wouldOf 2 (some .int) 5 [.int (iI (k : Int))] σ (fun z σ' => z = wouldV (sA s) (sB s) (sC s).1.1 k ∧ MRel σ' s ∧ σ'.1 49 = σ.1 49) := by
  intro ad hok hm
  have h3 := hR.2.2.2.2.2.2.1.1.1.2.2.1 k hk
  rw [show 100 * (0 : Int) + (k : Int) = (k : Int) by omega] at h3
  have hrat := hI.rat h0
  have hF := begin_Fb (σ := σ)
  have hRb := hF.MRel hR
  have hT1 := begin_RelT hR.2.2.2.2.2.2.1.1 (0, 0)
  obtain ⟨e16, e17⟩ := begin_16 (σ := σ)
  refine Ct.of (by decide) (EL.c1 rfl (EL.c1 rfl EL.n0)) (fun Γ h hq hnm => ?_)
  refine v_aload_n (n' := 1) h dX2_wouldOf_0 rfl rfl ?_
  refine vm_geta (n' := 4) h 5 (by decide) q942 dX2_wouldOf_1 rfl ?_
  refine v_iload_n (n' := 5) h dX2_wouldOf_4 rfl rfl ?_
  refine vm_iald (n' := 6) h hok hm 5 200 (by decide) dX2_wouldOf_5 rfl (by omega) (by decide) (fun g5 => ?_)
  refine v_iconst (n' := 7) h dX2_wouldOf_6 rfl ?_
  refine v_icmp_ne (n' := 10) (tgt := 12) h dX2_wouldOf_7 rfl rfl (by omega) (by omega) (fun c7 => ?_) (fun c7 => ?_)
  · have nk : k ∉ tl (sC s).1.1 := fun z => by rw [if_pos z] at h3; exact c7 h3
    refine v_aload_n (n' := 13) h dX2_wouldOf_12 rfl rfl ?_
    refine vm_callV (n' := 16) h hok hm (m_begin _) rfl (lw_V q1297 q1299 qs71 q87 q1300) hdX2_begin (by decide) ⟨Nat.zero_le _, Nat.zero_le _⟩ (Nat.le_of_ble_eq_true rfl) dX2_wouldOf_13 rfl rfl (fun s13 p13 m13 => ?_)
    have p13 := p13.symm
    subst p13
    refine v_aload_n (n' := 17) h dX2_wouldOf_16 rfl rfl ?_
    refine v_iconst (n' := 18) h dX2_wouldOf_17 rfl ?_
    refine v_iload_n (n' := 19) h dX2_wouldOf_18 rfl rfl ?_
    refine vm_callV (n' := 22) h hok m13 (m_enterT _ 1 (Or.inr rfl) _ hT1 ((hI.tb.b0 (by decide)).le (by decide)) k nk hk hz (sA s) (sB s) (hRb.h19 hI) (by rw [hRb.2.2.2.2.2.1]; exact hrat.2) (by rw [if_neg (by decide), e16]; exact hR.2.2.2.1) (by rw [if_neg (by decide), e17]; exact hR.2.2.2.2.1) hrat.1) rfl (lw_V q1148 q1150 qs45 q87 q1151) hdX2_enter (by decide) ⟨Nat.zero_le _, Nat.zero_le _⟩ (Nat.le_of_ble_eq_true rfl) dX2_wouldOf_19 rfl rfl (fun s19 p19 m19 => ?_)
    obtain ⟨p1, p9, pF⟩ := p19
    refine v_aload_n (n' := 23) h dX2_wouldOf_22 rfl rfl ?_
    refine vm_geti (n' := 26) h m19 9 (by decide) q946 dX2_wouldOf_23 rfl (fun g23 => ?_)
    refine v_iret h hq dX2_wouldOf_26 (Nat.le_refl _) (Nat.le_refl _) (ret_mi m19 ?_)
    exact ⟨by unfold wouldV; rw [if_neg nk]; exact p9, (hF.trans pF.b).MRel hR, by rw [pF.1 49 (by decide) (by decide)]; rfl⟩
  · refine v_iconst (n' := 11) h dX2_wouldOf_10 rfl ?_
    refine v_iret h hq dX2_wouldOf_11 (Nat.le_refl _) (Nat.le_refl _) (ret_mi hm ?_)
    refine ⟨?_, hR, rfl⟩
    unfold wouldV
    rw [if_pos (Classical.byContradiction (fun z => by rw [if_neg z] at h3; omega))]
noncomputable def oWould (s : SS) (key : Int) : Int := if ¬ (0 ≤ key ∧ key ≤ 99) then -102 else if sSh s = 0 ∨ tz (sC s).1.1 = 40 then -103 else wouldV (sA s) (sB s) (sC s).1.1 key.toNat
theorem m_would (σ : MS) (s : SS) (n : Int) (hR : MRel σ s) (hI : SInv s n) (key : Int) (h2 : -2147483648 ≤ key ∧ key ≤ 2147483647) : MCi yX2_would cX2_would 2 (some .int) 6 [.int (iI key)] σ (fun z σ' => z = oWould s key ∧ MRel σ' s) := by
  intro ad hok hm
  have h7 := hR.2.2.2.2.2.2.1.1.2.1
  have hz := hI.2.2.2.2.1.2.2.1
  refine Ct.of (by decide) (EL.c1 rfl (EL.c1 rfl EL.n0)) (fun Γ h hq hnm => ?_)
  refine v_iload_n (n' := 1) h dX2_would_0 rfl rfl ?_
  refine v_i2l (n' := 2) h dX2_would_1 rfl (by omega) ?_
  refine v_lconst (n' := 3) (y := 0) h dX2_would_2 rfl rfl ?_
  refine v_ldc2 (n' := 6) (z := 99) h dX2_would_3 rfl q1220 (by decide) ?_
  refine vs_callI (n' := 9) h (m_in _ _ _ (by omega) (by omega) (by omega)) (lw_S q1093 q1094 q87 q1095) hdX2_in (by decide) ⟨Nat.zero_le _, Nat.zero_le _⟩ (Nat.le_of_ble_eq_true rfl) dX2_would_6 rfl rfl (fun z6 p6 => ?_)
  have p6 := p6.symm
  subst p6
  refine v_bif_ne (n' := 12) (tgt := 15) h dX2_would_9 rfl rfl (fun c9 => ?_) (fun c9 => ?_)
  · refine v_aload_n (n' := 16) h dX2_would_15 rfl rfl ?_
    refine vm_callI (n' := 19) h hok hm (m_lacks _ _ _ hR hI) rfl (lw_V q1216 q1218 qs61 q87 q1219) hdX2_lacks (by decide) ⟨Nat.zero_le _, Nat.zero_le _⟩ (Nat.le_of_ble_eq_true rfl) dX2_would_16 rfl rfl (fun z16 s16 p16 m16 => ?_)
    obtain ⟨ez16, fz16⟩ := p16
    have ez16 := ez16.symm
    have fz16 := fz16.symm
    subst ez16 fz16
    refine v_bif_ne (n' := 22) (tgt := 33) h dX2_would_19 rfl rfl (fun c19 => ?_) (fun c19 => ?_)
    · refine v_bipush (n' := 35) h dX2_would_33 rfl (by decide) ?_
      refine v_goto (tgt := 43) h dX2_would_35 rfl ?_
      refine v_iret h hq dX2_would_43 (Nat.le_refl _) (Nat.le_refl _) (ret_mi m16 ?_)
      exact ⟨by unfold oWould; rw [if_neg (fun z => z c9), if_pos (Or.inl c19)], hR⟩
    · refine v_aload_n (n' := 23) h dX2_would_22 rfl rfl ?_
      refine vm_geta (n' := 26) h 7 (by decide) q944 dX2_would_23 rfl ?_
      refine v_iconst (n' := 27) h dX2_would_26 rfl ?_
      refine vm_iald (n' := 28) h hok m16 7 2 (by decide) dX2_would_27 rfl (by omega) (by decide) (fun g27 => ?_)
      rw [h7] at g27 ⊢
      refine v_bipush (n' := 30) h dX2_would_28 rfl (by decide) ?_
      refine v_icmp_ne (n' := 33) (tgt := 38) h dX2_would_30 rfl rfl (by omega) (by omega) (fun c30 => ?_) (fun c30 => ?_)
      · rw [show key = ((key.toNat : Nat) : Int) by omega]
        refine v_aload_n (n' := 39) h dX2_would_38 rfl rfl ?_
        refine v_iload_n (n' := 40) h dX2_would_39 rfl rfl ?_
        refine vm_callI (n' := 43) h hok m16 (m_wouldOf _ _ _ hR hI c19 (by omega) key.toNat (by omega)) rfl (lw_V q1293 q1295 qs70 q87 q1296) hdX2_wouldOf (by decide) ⟨Nat.zero_le _, Nat.zero_le _⟩ (Nat.le_of_ble_eq_true rfl) dX2_would_40 rfl rfl (fun z40 s40 p40 m40 => ?_)
        obtain ⟨p1, p2, -⟩ := p40
        refine v_iret h hq dX2_would_43 (Nat.le_refl _) (Nat.le_refl _) (ret_mi m40 ?_)
        exact ⟨by unfold oWould; rw [if_neg (fun z => z c9), if_neg (fun z => z.elim c19 (fun y => c30 (by omega)))]; exact p1, p2⟩
      · refine v_bipush (n' := 35) h dX2_would_33 rfl (by decide) ?_
        refine v_goto (tgt := 43) h dX2_would_35 rfl ?_
        refine v_iret h hq dX2_would_43 (Nat.le_refl _) (Nat.le_refl _) (ret_mi m16 ?_)
        exact ⟨by unfold oWould; rw [if_neg (fun z => z c9), if_pos (Or.inr (by omega))], hR⟩
  · refine v_bipush (n' := 14) h dX2_would_12 rfl (by decide) ?_
    refine v_iret h hq dX2_would_14 (Nat.le_refl _) (Nat.le_refl _) (ret_mi hm ?_)
    exact ⟨by unfold oWould; rw [if_pos c9], hR⟩
noncomputable def dearF (a b : Int) (T : Tr) : Nat → Int × Int
  | 0 => (-1, -1)
  | k + 1 => if (dearF a b T k).2 < wouldV a b T k then ((k : Int), wouldV a b T k) else dearF a b T k
theorem wouldV_r {a b : Int} {T : Tr} {k : Nat} (hz : tz T < 40) : -1 ≤ wouldV a b T k ∧ wouldV a b T k ≤ 40 := by
  have := entR_b40 (a := a) (b := b) (k := k) hz
  unfold wouldV
  split <;> omega
theorem dearF_r {a b : Int} {T : Tr} (hz : tz T < 40) : ∀ k : Nat, k ≤ 100 → (-1 ≤ (dearF a b T k).1 ∧ (dearF a b T k).1 ≤ 100) ∧ (-1 ≤ (dearF a b T k).2 ∧ (dearF a b T k).2 ≤ 40) := by
  intro k
  induction k with
  | zero => intro _; simp [dearF]
  | succ k ih =>
    intro hk
    have := ih (by omega)
    have hw := wouldV_r (a := a) (b := b) (k := k) hz
    unfold dearF
    split
    · dsimp only; omega
    · exact this
noncomputable def dearV (a b : Int) (T : Tr) (what : Int) : Int := if tz T = 40 then -1 else if what = 0 then (dearF a b T 100).1 else (dearF a b T 100).2
theorem m_dearOf_loop {Γ : GX} {s : SS} {n : Int} {ad : Nat → Nat} {what : Int} (hw : 0 ≤ what ∧ what ≤ 1) (hok : AdOk ad) (hI : SInv s n) (h0 : ¬ sSh s = 0) (hz : tz (sC s).1.1 < 40) (h : Ok0 cX2_dearOf yX2_dearOf.cls (some .int) (rmL 6) Γ) (hq : Rt (PI ad (fun z σ' => z = dearV (sA s) (sB s) (sC s).1.1 what ∧ MRel σ' s)) 0 0 Γ) :
    ∀ (m k : Nat) (σ : MS) (w : Option Value), k + m = 100 → MR σ → MRel σ s → V Γ 0 0 (mH ad σ) 7 [some (.ref (ad 50)), some (.int (iI what)), some (.int (iI (dearF (sA s) (sB s) (sC s).1.1 k).1)), some (.int (iI (dearF (sA s) (sB s) (sC s).1.1 k).2)), some (.int (iI (k : Int))), w] [] := by
  intro m
  induction m with
  | zero =>
    intro k σ w hk hm hR
    obtain rfl : k = 100 := by omega
    refine v_iload (n' := 9) h dX2_dearOf_7 rfl rfl ?_
    refine v_bipush (n' := 11) h dX2_dearOf_9 rfl (by decide) ?_
    refine v_icmp_ge (n' := 14) (tgt := 65) h dX2_dearOf_11 rfl rfl (by omega) (by omega) (fun c11 => ?_) (fun c11 => ?_)
    · refine v_iload_n (n' := 66) h dX2_dearOf_65 rfl rfl ?_
      refine v_if_ne (n' := 69) (tgt := 73) h dX2_dearOf_66 rfl rfl (by omega) (fun c66 => ?_) (fun c66 => ?_)
      · refine v_iload_n (n' := 74) h dX2_dearOf_73 rfl rfl ?_
        refine v_iret h hq dX2_dearOf_74 (Nat.le_refl _) (Nat.le_refl _) (ret_mi hm ?_)
        exact ⟨by unfold dearV; rw [if_neg (by omega), if_neg c66], hR⟩
      · refine v_iload_n (n' := 70) h dX2_dearOf_69 rfl rfl ?_
        refine v_goto (tgt := 74) h dX2_dearOf_70 rfl ?_
        refine v_iret h hq dX2_dearOf_74 (Nat.le_refl _) (Nat.le_refl _) (ret_mi hm ?_)
        exact ⟨by unfold dearV; rw [if_neg (by omega), if_pos c66], hR⟩
    · exact absurd (by decide) c11
  | succ m ih =>
    intro k σ w hk hm hR
    have h7 := hR.2.2.2.2.2.2.1.1.2.1
    have ek : ((k + 1 : Nat) : Int) = (k : Int) + 1 := by omega
    have hr := dearF_r (a := sA s) (b := sB s) hz k (by omega)
    have hwr := wouldV_r (a := sA s) (b := sB s) (k := k) hz
    have est : dearF (sA s) (sB s) (sC s).1.1 (k + 1) = if (dearF (sA s) (sB s) (sC s).1.1 k).2 < wouldV (sA s) (sB s) (sC s).1.1 k then ((k : Int), wouldV (sA s) (sB s) (sC s).1.1 k) else dearF (sA s) (sB s) (sC s).1.1 k := rfl
    have ih := ih (k + 1)
    rw [est, ek] at ih
    refine v_iload (n' := 9) h dX2_dearOf_7 rfl rfl ?_
    refine v_bipush (n' := 11) h dX2_dearOf_9 rfl (by decide) ?_
    refine v_icmp_ge (n' := 14) (tgt := 65) h dX2_dearOf_11 rfl rfl (by omega) (by omega) (fun c11 => ?_) (fun c11 => ?_)
    · exact absurd c11 (by omega)
    · refine v_aload_n (n' := 15) h dX2_dearOf_14 rfl rfl ?_
      refine vm_geta (n' := 18) h 7 (by decide) q944 dX2_dearOf_15 rfl ?_
      refine v_iconst (n' := 19) h dX2_dearOf_18 rfl ?_
      refine vm_iald (n' := 20) h hok hm 7 2 (by decide) dX2_dearOf_19 rfl (by omega) (by decide) (fun g19 => ?_)
      rw [h7] at g19 ⊢
      refine v_bipush (n' := 22) h dX2_dearOf_20 rfl (by decide) ?_
      refine v_icmp_ge (n' := 25) (tgt := 65) h dX2_dearOf_22 rfl rfl (by omega) (by omega) (fun c22 => ?_) (fun c22 => ?_)
      · exact absurd c22 (by omega)
      · refine v_aload_n (n' := 26) h dX2_dearOf_25 rfl rfl ?_
        refine v_iload (n' := 28) h dX2_dearOf_26 rfl rfl ?_
        refine vm_callI (n' := 31) h hok hm (m_wouldOf _ _ _ hR hI h0 hz k (by omega)) rfl (lw_V q1293 q1295 qs70 q87 q1296) hdX2_wouldOf (by decide) ⟨Nat.zero_le _, Nat.zero_le _⟩ (Nat.le_of_ble_eq_true rfl) dX2_dearOf_28 rfl rfl (fun z28 s28 p28 m28 => ?_)
        obtain ⟨p1, p2⟩ := p28
        subst p1
        refine v_istore5 (n' := 33) h dX2_dearOf_31 rfl rfl ?_
        refine v_iload (n' := 35) h dX2_dearOf_33 rfl rfl ?_
        refine v_iload_n (n' := 36) h dX2_dearOf_35 rfl rfl ?_
        refine v_icmp_le (n' := 39) (tgt := 44) h dX2_dearOf_36 rfl rfl (by omega) (by omega) (fun c36 => ?_) (fun c36 => ?_)
        · refine v_iload_n (n' := 45) h dX2_dearOf_44 rfl rfl ?_
          refine v_istore2 (n' := 46) h dX2_dearOf_45 rfl rfl ?_
          refine v_iload (n' := 48) h dX2_dearOf_46 rfl rfl ?_
          refine v_iload_n (n' := 49) h dX2_dearOf_48 rfl rfl ?_
          refine v_icmp_le (n' := 52) (tgt := 57) h dX2_dearOf_49 rfl rfl (by omega) (by omega) (fun c49 => ?_) (fun c49 => ?_)
          · refine v_iload_n (n' := 58) h dX2_dearOf_57 rfl rfl ?_
            refine v_istore3 (n' := 59) h dX2_dearOf_58 rfl rfl ?_
            refine v_iinc4 (n' := 62) h dX2_dearOf_59 rfl rfl ?_
            refine v_goto (tgt := 7) h dX2_dearOf_62 rfl ?_
            rw [if_neg (by omega)] at ih
            exact ih s28 _ (by omega) m28 p2.1
          · exact absurd c36 c49
        · refine v_iload (n' := 41) h dX2_dearOf_39 rfl rfl ?_
          refine v_goto (tgt := 45) h dX2_dearOf_41 rfl ?_
          refine v_istore2 (n' := 46) h dX2_dearOf_45 rfl rfl ?_
          refine v_iload (n' := 48) h dX2_dearOf_46 rfl rfl ?_
          refine v_iload_n (n' := 49) h dX2_dearOf_48 rfl rfl ?_
          refine v_icmp_le (n' := 52) (tgt := 57) h dX2_dearOf_49 rfl rfl (by omega) (by omega) (fun c49 => ?_) (fun c49 => ?_)
          · exact absurd c49 c36
          · refine v_iload (n' := 54) h dX2_dearOf_52 rfl rfl ?_
            refine v_goto (tgt := 58) h dX2_dearOf_54 rfl ?_
            refine v_istore3 (n' := 59) h dX2_dearOf_58 rfl rfl ?_
            refine v_iinc4 (n' := 62) h dX2_dearOf_59 rfl rfl ?_
            refine v_goto (tgt := 7) h dX2_dearOf_62 rfl ?_
            rw [if_pos (by omega)] at ih
            exact ih s28 _ (by omega) m28 p2.1
theorem m_dearOf (σ : MS) (s : SS) (n : Int) (hR : MRel σ s) (hI : SInv s n) (h0 : ¬ sSh s = 0) (what : Int) (hw : 0 ≤ what ∧ what ≤ 1) : MCi yX2_dearOf cX2_dearOf 6 (some .int) 6 [.int (iI what)] σ (fun z σ' => z = dearV (sA s) (sB s) (sC s).1.1 what ∧ MRel σ' s) := by
  intro ad hok hm
  have hz := hI.2.2.2.2.1.2.2.1
  have h7 := hR.2.2.2.2.2.2.1.1.2.1
  refine Ct.of (by decide) (EL.c1 rfl (EL.c1 rfl (EL.nn (EL.nn (EL.nn (EL.nn EL.n0)))))) (fun Γ h hq hnm => ?_)
  by_cases c40 : tz (sC s).1.1 = 40
  · have _u := c40
    refine v_iconst (n' := 1) h dX2_dearOf_0 rfl ?_
    refine v_istore2 (n' := 2) h dX2_dearOf_1 rfl rfl ?_
    refine v_iconst (n' := 3) h dX2_dearOf_2 rfl ?_
    refine v_istore3 (n' := 4) h dX2_dearOf_3 rfl rfl ?_
    refine v_iconst (n' := 5) h dX2_dearOf_4 rfl ?_
    refine v_istore4 (n' := 7) h dX2_dearOf_5 rfl rfl ?_
    refine v_iload (n' := 9) h dX2_dearOf_7 rfl rfl ?_
    refine v_bipush (n' := 11) h dX2_dearOf_9 rfl (by decide) ?_
    refine v_icmp_ge (n' := 14) (tgt := 65) h dX2_dearOf_11 rfl rfl (by omega) (by omega) (fun c11 => ?_) (fun c11 => ?_)
    · exact absurd c11 (by decide)
    · refine v_aload_n (n' := 15) h dX2_dearOf_14 rfl rfl ?_
      refine vm_geta (n' := 18) h 7 (by decide) q944 dX2_dearOf_15 rfl ?_
      refine v_iconst (n' := 19) h dX2_dearOf_18 rfl ?_
      refine vm_iald (n' := 20) h hok hm 7 2 (by decide) dX2_dearOf_19 rfl (by omega) (by decide) (fun g19 => ?_)
      rw [h7] at g19 ⊢
      refine v_bipush (n' := 22) h dX2_dearOf_20 rfl (by decide) ?_
      refine v_icmp_ge (n' := 25) (tgt := 65) h dX2_dearOf_22 rfl rfl (by omega) (by omega) (fun c22 => ?_) (fun c22 => ?_)
      · refine v_iload_n (n' := 66) h dX2_dearOf_65 rfl rfl ?_
        refine v_if_ne (n' := 69) (tgt := 73) h dX2_dearOf_66 rfl rfl (by omega) (fun c66 => ?_) (fun c66 => ?_)
        · refine v_iload_n (n' := 74) h dX2_dearOf_73 rfl rfl ?_
          refine v_iret h hq dX2_dearOf_74 (Nat.le_refl _) (Nat.le_refl _) (ret_mi hm ?_)
          exact ⟨by unfold dearV; rw [if_pos c40], hR⟩
        · refine v_iload_n (n' := 70) h dX2_dearOf_69 rfl rfl ?_
          refine v_goto (tgt := 74) h dX2_dearOf_70 rfl ?_
          refine v_iret h hq dX2_dearOf_74 (Nat.le_refl _) (Nat.le_refl _) (ret_mi hm ?_)
          exact ⟨by unfold dearV; rw [if_pos c40], hR⟩
      · exact absurd (show (40 : Int) ≤ (tz (sC s).1.1 : Int) by omega) c22
  · have _u := c40
    refine v_iconst (n' := 1) h dX2_dearOf_0 rfl ?_
    refine v_istore2 (n' := 2) h dX2_dearOf_1 rfl rfl ?_
    refine v_iconst (n' := 3) h dX2_dearOf_2 rfl ?_
    refine v_istore3 (n' := 4) h dX2_dearOf_3 rfl rfl ?_
    refine v_iconst (n' := 5) h dX2_dearOf_4 rfl ?_
    refine v_istore4 (n' := 7) h dX2_dearOf_5 rfl rfl ?_
    exact m_dearOf_loop hw hok hI h0 (by omega) h hq 100 0 σ none (by omega) hm hR
noncomputable def oDear (s : SS) (what : Int) : Int := if ¬ (0 ≤ what ∧ what ≤ 1) then -102 else if sSh s = 0 then -103 else dearV (sA s) (sB s) (sC s).1.1 what
theorem m_dear (σ : MS) (s : SS) (n : Int) (hR : MRel σ s) (hI : SInv s n) (what : Int) (h2 : -2147483648 ≤ what ∧ what ≤ 2147483647) : MCi yX2_dear cX2_dear 2 (some .int) 7 [.int (iI what)] σ (fun z σ' => z = oDear s what ∧ MRel σ' s) := by
  intro ad hok hm
  refine Ct.of (by decide) (EL.c1 rfl (EL.c1 rfl EL.n0)) (fun Γ h hq hnm => ?_)
  refine v_iload_n (n' := 1) h dX2_dear_0 rfl rfl ?_
  refine v_i2l (n' := 2) h dX2_dear_1 rfl (by omega) ?_
  refine v_lconst (n' := 3) (y := 0) h dX2_dear_2 rfl rfl ?_
  refine v_lconst (n' := 4) (y := 1) h dX2_dear_3 rfl rfl ?_
  refine vs_callI (n' := 7) h (m_in _ _ _ (by omega) (by omega) (by omega)) (lw_S q1093 q1094 q87 q1095) hdX2_in (by decide) ⟨Nat.zero_le _, Nat.zero_le _⟩ (Nat.le_of_ble_eq_true rfl) dX2_dear_4 rfl rfl (fun z4 p4 => ?_)
  have p4 := p4.symm
  subst p4
  refine v_bif_ne (n' := 10) (tgt := 13) h dX2_dear_7 rfl rfl (fun c7 => ?_) (fun c7 => ?_)
  · refine v_aload_n (n' := 14) h dX2_dear_13 rfl rfl ?_
    refine vm_callI (n' := 17) h hok hm (m_lacks _ _ _ hR hI) rfl (lw_V q1216 q1218 qs61 q87 q1219) hdX2_lacks (by decide) ⟨Nat.zero_le _, Nat.zero_le _⟩ (Nat.le_of_ble_eq_true rfl) dX2_dear_14 rfl rfl (fun z14 s14 p14 m14 => ?_)
    obtain ⟨ez14, fz14⟩ := p14
    have ez14 := ez14.symm
    have fz14 := fz14.symm
    subst ez14 fz14
    refine v_bif_eq (n' := 20) (tgt := 25) h dX2_dear_17 rfl rfl (fun c17 => ?_) (fun c17 => ?_)
    · refine v_aload_n (n' := 26) h dX2_dear_25 rfl rfl ?_
      refine v_iload_n (n' := 27) h dX2_dear_26 rfl rfl ?_
      refine vm_callI (n' := 30) h hok m14 (m_dearOf _ _ _ hR hI c17 what c7) rfl (lw_V q1305 q1307 qs72 q87 q1308) hdX2_dearOf (by decide) ⟨Nat.zero_le _, Nat.zero_le _⟩ (Nat.le_of_ble_eq_true rfl) dX2_dear_27 rfl rfl (fun z27 s27 p27 m27 => ?_)
      obtain ⟨p1, p2⟩ := p27
      refine v_iret h hq dX2_dear_30 (Nat.le_refl _) (Nat.le_refl _) (ret_mi m27 ?_)
      exact ⟨by unfold oDear; rw [if_neg (fun z => z c7), if_neg c17]; exact p1, p2⟩
    · refine v_bipush (n' := 22) h dX2_dear_20 rfl (by decide) ?_
      refine v_goto (tgt := 30) h dX2_dear_22 rfl ?_
      refine v_iret h hq dX2_dear_30 (Nat.le_refl _) (Nat.le_refl _) (ret_mi m14 ?_)
      exact ⟨by unfold oDear; rw [if_neg (fun z => z c7), if_pos c17], hR⟩
  · refine v_bipush (n' := 12) h dX2_dear_10 rfl (by decide) ?_
    refine v_iret h hq dX2_dear_12 (Nat.le_refl _) (Nat.le_refl _) (ret_mi hm ?_)
    exact ⟨by unfold oDear; rw [if_pos c7], hR⟩
