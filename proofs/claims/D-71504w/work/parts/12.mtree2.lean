/-! MODEL 3: heights, limits, small writes -/
set_option maxRecDepth 100000
theorem way_th {T : Tr} {k : Nat} (hs : Srt T) (h : k ∈ tl T) : ((way T k).length : Int) ≤ th T + 1 := by
  induction T with
  | leaf u => simp [tl] at h
  | branch x l r ihl ihr =>
    rw [way_br]
    have t1 : ∀ S : Tr, -1 ≤ th S := by
      intro S
      induction S with
      | leaf u => simp [th]
      | branch a b c i1 i2 => simp only [th]; split <;> omega
    have t2 := t1 l
    have t3 := t1 r
    simp only [th]
    by_cases c : k = x
    · rw [if_pos c]
      simp only [List.length_cons, List.length_nil]
      split <;> omega
    · rw [if_neg c]
      by_cases c2 : k < x
      · rw [if_pos c2]
        have := ihl (srt_br.mp hs).1 (mem_l hs h c2)
        simp only [List.length_cons]
        split <;> omega
      · rw [if_neg c2]
        have := ihr (srt_br.mp hs).2.1 (mem_r hs h (by omega))
        simp only [List.length_cons]
        split <;> omega
theorem th_ge (S : Tr) : -1 ≤ th S := by
  induction S with
  | leaf u => simp [th]
  | branch a b c i1 i2 => simp only [th]; split <;> omega
theorem th_ex {T : Tr} (hs : Srt T) (h : T ≠ .leaf ()) : ∃ k, k ∈ tl T ∧ ((way T k).length : Int) = th T + 1 := by
  induction T with
  | leaf u => exact absurd rfl h
  | branch x l r ihl ihr =>
    obtain ⟨h1, h2, h3, h4⟩ := srt_br.mp hs
    have gl := th_ge l
    have gr := th_ge r
    simp only [th]
    by_cases c : th l < th r
    · rw [if_pos c]
      have hr : r ≠ .leaf () := fun e => by subst e; simp only [th] at c; omega
      obtain ⟨k, k1, k2⟩ := ihr h2 hr
      refine ⟨k, mem_br.mpr (Or.inr (Or.inr k1)), ?_⟩
      have := h4 k k1
      rw [way_br, if_neg (by omega), if_neg (by omega)]
      simp only [List.length_cons]
      omega
    · rw [if_neg c]
      by_cases hl : l = .leaf ()
      · subst hl
        refine ⟨x, mem_br.mpr (Or.inr (Or.inl rfl)), ?_⟩
        rw [way_br, if_pos rfl]
        simp [th]
      · obtain ⟨k, k1, k2⟩ := ihl h1 hl
        refine ⟨k, mem_br.mpr (Or.inl k1), ?_⟩
        have := h3 k k1
        rw [way_br, if_neg (by omega), if_pos this]
        simp only [List.length_cons]
        omega
theorem way_pos {T : Tr} {k : Nat} (hs : Srt T) (h : k ∈ tl T) : 1 ≤ (way T k).length := by
  obtain ⟨p, hp⟩ := way_self hs h
  rw [hp]
  simp
def TallEx (T : Tr) (told : Int) : Prop := told = -1 ∨ ∃ j, j ∈ tl T ∧ (dep T j : Int) = told
theorem m_tall_loop {Γ : GX} {σ : MS} {ad : Nat → Nat} {t : Int} {T : Tr} {w : Option Value} (hw : w = none ∨ ∃ x, w = some (.int x)) (hok : AdOk ad) (hm : MR σ) (ht : t = 0 ∨ t = 1) (hT : LR σ t T) (h : Ok0 cX2_tall yX2_tall.cls (some .int) (rmL 2) Γ) (hq : Rt (PI ad (fun z σ' => z = th T ∧ σ' = σ)) 0 0 Γ) :
    ∀ (n k : Nat) (told : Int) (w : Option Value), k + n = 100 → -1 ≤ told → (∀ j, j < k → j ∈ tl T → (dep T j : Int) ≤ told) → TallEx T told → V Γ 0 0 (mH ad σ) 4 [some (.ref (ad 50)), some (.int (iI t)), some (.int (iI told)), some (.int (iI (k : Int))), w] [] := by
  intro n
  have hz := hT.2.2.2.2.2
  have hs := hT.2.2.2.1
  induction n with
  | zero =>
    intro k told w hkn h1 h2 h3
    obtain rfl : k = 100 := by omega
    refine v_iload_n (n' := 5) h dX2_tall_4 rfl rfl ?_
    refine v_bipush (n' := 7) h dX2_tall_5 rfl (by decide) ?_
    refine v_icmp_ge (n' := 10) (tgt := 56) h dX2_tall_7 rfl rfl (by omega) (by omega) (fun c7 => ?_) (fun c7 => ?_)
    · refine v_iload_n (n' := 57) h dX2_tall_56 rfl rfl ?_
      refine v_iret h hq dX2_tall_57 (Nat.le_refl _) (Nat.le_refl _) (ret_mi hm ?_)
      refine ⟨?_, rfl⟩
      by_cases e : T = .leaf ()
      · subst e
        rcases h3 with h3 | ⟨j, j1, -⟩
        · exact h3
        · simp [tl] at j1
      · obtain ⟨k, k1, k2⟩ := th_ex hs e
        have a1 := h2 k (hT.2.2.2.2.1 k k1) k1
        have a2 := way_pos hs k1
        rcases h3 with h3 | ⟨j, j1, j2⟩
        · unfold dep at a1; omega
        · have a3 := way_th hs j1
          have a4 := way_pos hs j1
          unfold dep at a1 j2
          omega
    · exact absurd (by decide) c7
  | succ n ih =>
    intro k told w hkn h1 h2 h3
    have hth := hT.2.2.1 k (by omega)
    have ek : ((k + 1 : Nat) : Int) = (k : Int) + 1 := by omega
    have dl := dep_le (T := T) (k := k)
    have tr : told ≤ 100 := by
      rcases h3 with h3 | ⟨j, j1, j2⟩
      · omega
      · have := dep_le (T := T) (k := j); omega
    refine v_iload_n (n' := 5) h dX2_tall_4 rfl rfl ?_
    refine v_bipush (n' := 7) h dX2_tall_5 rfl (by decide) ?_
    refine v_icmp_ge (n' := 10) (tgt := 56) h dX2_tall_7 rfl rfl (by omega) (by omega) (fun c7 => ?_) (fun c7 => ?_)
    · exact absurd c7 (by omega)
    · refine v_aload_n (n' := 11) h dX2_tall_10 rfl rfl ?_
      refine vm_geta (n' := 14) h 5 (by decide) q942 dX2_tall_11 rfl ?_
      refine v_bipush (n' := 16) h dX2_tall_14 rfl (by decide) ?_
      refine v_iload_n (n' := 17) h dX2_tall_16 rfl rfl ?_
      refine v_imul (n' := 18) h dX2_tall_17 rfl ?_
      refine v_iload_n (n' := 19) h dX2_tall_18 rfl rfl ?_
      refine v_iadd (n' := 20) h dX2_tall_19 rfl ?_
      refine vm_iald (n' := 21) h hok hm 5 200 (by decide) dX2_tall_20 rfl (by omega) (by decide) (fun g20 => ?_)
      refine v_iconst (n' := 22) h dX2_tall_21 rfl ?_
      refine v_icmp_ne (n' := 25) (tgt := 34) h dX2_tall_22 rfl rfl (by omega) (by omega) (fun c22 => ?_) (fun c22 => ?_)
      · have nk : ¬ k ∈ tl T := fun z => by rw [if_pos z] at hth; exact c22 hth
        refine v_iconst (n' := 35) h dX2_tall_34 rfl ?_
        refine v_istore4 (n' := 37) h dX2_tall_35 rfl rfl ?_
        refine v_iload (n' := 39) h dX2_tall_37 rfl rfl ?_
        refine v_iload_n (n' := 40) h dX2_tall_39 rfl rfl ?_
        refine v_icmp_le (n' := 43) (tgt := 48) h dX2_tall_40 rfl rfl (by omega) (by omega) (fun c40 => ?_) (fun c40 => ?_)
        · refine v_iload_n (n' := 49) h dX2_tall_48 rfl rfl ?_
          refine v_istore2 (n' := 50) h dX2_tall_49 rfl rfl ?_
          refine v_iinc3 (n' := 53) h dX2_tall_50 rfl rfl ?_
          refine v_goto (tgt := 4) h dX2_tall_53 rfl ?_
          rw [← ek]
          refine ih (k + 1) told _ (by omega) h1 (fun j j1 j2 => ?_) h3
          by_cases e : j = k
          · exact absurd (e ▸ j2) nk
          · exact h2 j (by omega) j2
        · refine v_iload (n' := 45) h dX2_tall_43 rfl rfl ?_
          refine v_goto (tgt := 49) h dX2_tall_45 rfl ?_
          refine v_istore2 (n' := 50) h dX2_tall_49 rfl rfl ?_
          refine v_iinc3 (n' := 53) h dX2_tall_50 rfl rfl ?_
          refine v_goto (tgt := 4) h dX2_tall_53 rfl ?_
          exact absurd h1 (by omega)
      · have hkT : k ∈ tl T := Classical.byContradiction (fun z => by rw [if_neg z] at hth; omega)
        refine v_aload_n (n' := 26) h dX2_tall_25 rfl rfl ?_
        refine v_iload_n (n' := 27) h dX2_tall_26 rfl rfl ?_
        refine v_iload_n (n' := 28) h dX2_tall_27 rfl rfl ?_
        refine vm_callI (n' := 31) h hok hm (m_depth _ _ ht T hT k hkT) rfl (lw_V q1160 q1162 qs48 q87 q1163) hdX2_depth (by decide) ⟨Nat.zero_le _, Nat.zero_le _⟩ (Nat.le_of_ble_eq_true rfl) dX2_tall_28 rfl rfl (fun z28 s28 p28 m28 => ?_)
        obtain ⟨e28, f28⟩ := p28
        have e28 := e28.symm
        have f28 := f28.symm
        subst e28 f28
        refine v_goto (tgt := 35) h dX2_tall_31 rfl ?_
        refine v_istore4 (n' := 37) h dX2_tall_35 rfl rfl ?_
        refine v_iload (n' := 39) h dX2_tall_37 rfl rfl ?_
        refine v_iload_n (n' := 40) h dX2_tall_39 rfl rfl ?_
        refine v_icmp_le (n' := 43) (tgt := 48) h dX2_tall_40 rfl rfl (by omega) (by omega) (fun c40 => ?_) (fun c40 => ?_)
        · refine v_iload_n (n' := 49) h dX2_tall_48 rfl rfl ?_
          refine v_istore2 (n' := 50) h dX2_tall_49 rfl rfl ?_
          refine v_iinc3 (n' := 53) h dX2_tall_50 rfl rfl ?_
          refine v_goto (tgt := 4) h dX2_tall_53 rfl ?_
          rw [← ek]
          refine ih (k + 1) told _ (by omega) h1 (fun j j1 j2 => ?_) h3
          by_cases e : j = k
          · rw [e]; omega
          · exact h2 j (by omega) j2
        · refine v_iload (n' := 45) h dX2_tall_43 rfl rfl ?_
          refine v_goto (tgt := 49) h dX2_tall_45 rfl ?_
          refine v_istore2 (n' := 50) h dX2_tall_49 rfl rfl ?_
          refine v_iinc3 (n' := 53) h dX2_tall_50 rfl rfl ?_
          refine v_goto (tgt := 4) h dX2_tall_53 rfl ?_
          rw [← ek]
          refine ih (k + 1) _ _ (by omega) (by omega) (fun j j1 j2 => ?_) (Or.inr ⟨k, hkT, rfl⟩)
          by_cases e : j = k
          · rw [e]; omega
          · have := h2 j (by omega) j2; omega
theorem m_tall (σ : MS) (t : Int) (ht : t = 0 ∨ t = 1) (T : Tr) (hT : LR σ t T) : MCi yX2_tall cX2_tall 5 (some .int) 2 [.int (iI t)] σ (fun z σ' => z = th T ∧ σ' = σ) := by
  intro ad hok hm
  refine Ct.of (by decide) (EL.c1 rfl (EL.c1 rfl (EL.nn (EL.nn (EL.nn EL.n0))))) (fun Γ h hq hnm => ?_)
  refine v_iconst (n' := 1) h dX2_tall_0 rfl ?_
  refine v_istore2 (n' := 2) h dX2_tall_1 rfl rfl ?_
  refine v_iconst (n' := 3) h dX2_tall_2 rfl ?_
  refine v_istore3 (n' := 4) h dX2_tall_3 rfl rfl ?_
  exact m_tall_loop (Or.inl rfl) hok hm ht hT h hq 100 0 (-1) none (by omega) (by omega) (fun j j1 _ => by omega) (Or.inl rfl)
/-! the limit -/
def limF : Nat → Int → Int → Int → Nat → Nat
  | 0, _, _, _, h => h
  | f + 1, a, b, n, h => if b ^ (h + 1) ≤ a ^ (h + 1) * n then limF f a b n (h + 1) else h
def lim (a b n : Int) : Nat := limF 17 a b n 0
theorem rat_cases {a b : Int} (h : isRat a b) : (a = 2 ∧ b = 3) ∨ (a = 3 ∧ b = 4) ∨ (a = 3 ∧ b = 5) ∨ (a = 4 ∧ b = 5) := by
  unfold isRat at h
  omega
theorem pw_bd : ∀ h : Nat, h < 17 → ((2 : Int) ^ (h + 1) ≤ 762939453125 ∧ (3 : Int) ^ (h + 1) ≤ 762939453125 ∧ (4 : Int) ^ (h + 1) ≤ 762939453125 ∧ (5 : Int) ^ (h + 1) ≤ 762939453125) := by decide +kernel
theorem pw_b {x : Int} (hx : 2 ≤ x ∧ x ≤ 5) {h : Nat} (hh : h < 17) : 0 ≤ x ^ (h + 1) ∧ x ^ (h + 1) ≤ 762939453125 := by
  obtain ⟨h1, h2, h3, h4⟩ := pw_bd h hh
  refine ⟨Int.le_of_lt (Int.pow_pos (by omega)), ?_⟩
  have : x = 2 ∨ x = 3 ∨ x = 4 ∨ x = 5 := by omega
  rcases this with rfl | rfl | rfl | rfl <;> assumption
theorem lim_end {a b n : Int} (h : isRat a b) (hn : 0 ≤ n ∧ n ≤ 41) : ¬ b ^ 17 ≤ a ^ 17 * n := by
  rcases rat_cases h with ⟨rfl, rfl⟩ | ⟨rfl, rfl⟩ | ⟨rfl, rfl⟩ | ⟨rfl, rfl⟩
  · have e1 : (3 : Int) ^ 17 = 129140163 := by decide
    have e2 : (2 : Int) ^ 17 = 131072 := by decide
    rw [e1, e2]; omega
  · have e1 : (4 : Int) ^ 17 = 17179869184 := by decide
    have e2 : (3 : Int) ^ 17 = 129140163 := by decide
    rw [e1, e2]; omega
  · have e1 : (5 : Int) ^ 17 = 762939453125 := by decide
    have e2 : (3 : Int) ^ 17 = 129140163 := by decide
    rw [e1, e2]; omega
  · have e1 : (5 : Int) ^ 17 = 762939453125 := by decide
    have e2 : (4 : Int) ^ 17 = 17179869184 := by decide
    rw [e1, e2]; omega
theorem limF_le : ∀ (f h : Nat) (a b n : Int), limF f a b n h ≤ f + h := by
  intro f
  induction f with
  | zero => intro h a b n; simp [limF]
  | succ f ih =>
    intro h a b n
    unfold limF
    split
    · have := ih (h + 1) a b n; omega
    · omega
theorem pw_lt {a b : Int} (h0 : 0 < a) (h1 : a < b) : ∀ n : Nat, a ^ (n + 1) < b ^ (n + 1) := by
  intro n
  induction n with
  | zero => simpa [Int.pow_succ] using h1
  | succ n ih =>
    rw [Int.pow_succ a (n + 1), Int.pow_succ b (n + 1)]
    have p0 : 0 < a ^ (n + 1) := Int.pow_pos h0
    exact Int.lt_of_le_of_lt (Int.mul_le_mul_of_nonneg_left (Int.le_of_lt h1) (Int.le_of_lt p0)) (Int.mul_lt_mul_of_pos_right ih (by omega))
theorem mul_bd {x n : Int} (hx : 0 ≤ x ∧ x ≤ 762939453125) (hn : 0 ≤ n ∧ n ≤ 41) : 0 ≤ x * n ∧ x * n ≤ 31280517578125 := by
  refine ⟨Int.mul_nonneg hx.1 hn.1, ?_⟩
  have h1 : x * n ≤ x * 41 := Int.mul_le_mul_of_nonneg_left hn.2 hx.1
  omega
theorem m_limit_loop {Γ : GX} {σ : MS} {ad : Nat → Nat} {t n a b : Int} (hok : AdOk ad) (hm : MR σ) (ht : t = 0 ∨ t = 1) (ha : (if t = 0 then σ.1 14 else σ.1 16) = a) (hb : (if t = 0 then σ.1 15 else σ.1 17) = b) (hab : isRat a b) (hn : 0 ≤ n ∧ n ≤ 41) (h : Ok0 cX2_limit yX2_limit.cls (some .int) (rmL 2) Γ) (hq : Rt (PI ad (fun z σ' => z = (lim a b n : Int) ∧ σ' = σ)) 0 0 Γ) :
    ∀ (f g : Nat) (up dn : Int), f + g + 1 = 17 → up = b ^ (g + 1) → dn = a ^ (g + 1) * n → limF (f + 1) a b n g = lim a b n → V Γ 0 0 (mH ad σ) 21 [some (.ref (ad 50)), some (.int (iI t)), some (.int (iI n)), some (.int (iI (g : Int))), some (.long (lI up)), none, some (.long (lI dn)), none] [] := by
  have ab := rat_cases hab
  intro f
  induction f with
  | zero =>
    intro g up dn hg hup hdn hl
    obtain rfl : g = 16 := by omega
    have e : ¬ b ^ (16 + 1) ≤ a ^ (16 + 1) * n := lim_end hab hn
    have b1 := pw_b (x := b) (by omega) (h := 16) (by omega)
    have b2 := mul_bd (pw_b (x := a) (by omega) (h := 16) (by omega)) hn
    unfold limF at hl
    rw [if_neg e] at hl
    refine v_iload_n (n' := 22) h dX2_limit_21 rfl rfl ?_
    refine v_iconst (n' := 23) h dX2_limit_22 rfl ?_
    refine v_icmp_le (n' := 26) (tgt := 62) h dX2_limit_23 rfl rfl (by omega) (by omega) (fun c23 => ?_) (fun c23 => ?_)
    · refine v_iload_n (n' := 63) h dX2_limit_62 rfl rfl ?_
      refine v_iret h hq dX2_limit_63 (Nat.le_refl _) (Nat.le_refl _) (ret_mi hm ?_)
      exact ⟨by omega, rfl⟩
    · refine v_lload (n' := 28) h dX2_limit_26 rfl rfl ?_
      refine v_lload (n' := 30) h dX2_limit_28 rfl rfl ?_
      refine v_lcmp (n' := 31) h dX2_limit_30 rfl (by omega) (by omega) ?_
      refine v_cif_gt (n' := 34) (tgt := 62) h dX2_limit_31 rfl rfl (fun c31 => ?_) (fun c31 => ?_)
      · refine v_iload_n (n' := 63) h dX2_limit_62 rfl rfl ?_
        refine v_iret h hq dX2_limit_63 (Nat.le_refl _) (Nat.le_refl _) (ret_mi hm ?_)
        exact ⟨by omega, rfl⟩
      · exact absurd (show b ^ (16 + 1) ≤ a ^ (16 + 1) * n by omega) e
  | succ f ih =>
    intro g up dn hg hup hdn hl
    have b1 := pw_b (x := b) (by omega) (h := g) (by omega)
    have b2 := mul_bd (pw_b (x := a) (by omega) (h := g) (by omega)) hn
    have eg : ((g + 1 : Nat) : Int) = (g : Int) + 1 := by omega
    refine v_iload_n (n' := 22) h dX2_limit_21 rfl rfl ?_
    refine v_iconst (n' := 23) h dX2_limit_22 rfl ?_
    refine v_icmp_le (n' := 26) (tgt := 62) h dX2_limit_23 rfl rfl (by omega) (by omega) (fun c23 => ?_) (fun c23 => ?_)
    · refine v_iload_n (n' := 63) h dX2_limit_62 rfl rfl ?_
      refine v_iret h hq dX2_limit_63 (Nat.le_refl _) (Nat.le_refl _) (ret_mi hm ?_)
      refine ⟨?_, rfl⟩
      rw [← hl]
      unfold limF
      have hn1 : n = 0 ∨ n = 1 := by omega
      rw [if_neg]
      intro z
      have hp : a ^ (g + 1) < b ^ (g + 1) := pw_lt (by omega) (by omega) g
      have hp0 : 0 < b ^ (g + 1) := Int.pow_pos (by omega)
      rcases hn1 with e | e
      · rw [e, Int.mul_zero] at z; omega
      · rw [e, Int.mul_one] at z; omega
    · refine v_lload (n' := 28) h dX2_limit_26 rfl rfl ?_
      refine v_lload (n' := 30) h dX2_limit_28 rfl rfl ?_
      refine v_lcmp (n' := 31) h dX2_limit_30 rfl (by omega) (by omega) ?_
      refine v_cif_gt (n' := 34) (tgt := 62) h dX2_limit_31 rfl rfl (fun c31 => ?_) (fun c31 => ?_)
      · refine v_iload_n (n' := 63) h dX2_limit_62 rfl rfl ?_
        refine v_iret h hq dX2_limit_63 (Nat.le_refl _) (Nat.le_refl _) (ret_mi hm ?_)
        refine ⟨?_, rfl⟩
        rw [← hl]
        unfold limF
        rw [if_neg (by omega)]
      · refine v_iinc3 (n' := 37) h dX2_limit_34 rfl rfl ?_
        refine v_lload (n' := 39) h dX2_limit_37 rfl rfl ?_
        refine v_aload_n (n' := 40) h dX2_limit_39 rfl rfl ?_
        refine v_iload_n (n' := 41) h dX2_limit_40 rfl rfl ?_
        refine vm_callI (n' := 44) h hok hm (m_b _ _ ht) rfl (lw_V q1172 q1174 qs51 q87 q1175) hdX2_b (by decide) ⟨Nat.zero_le _, Nat.zero_le _⟩ (Nat.le_of_ble_eq_true rfl) dX2_limit_41 rfl rfl (fun z41 s41 p41 m41 => ?_)
        obtain ⟨e41, f41⟩ := p41
        have e41 := e41.symm
        have f41 := f41.symm
        subst e41 f41
        rw [hb]
        refine v_i2l (n' := 45) h dX2_limit_44 rfl (by omega) ?_
        refine v_lmul (n' := 46) h dX2_limit_45 rfl ?_
        refine v_lstore4 (n' := 48) h dX2_limit_46 rfl rfl ?_
        refine v_lload (n' := 50) h dX2_limit_48 rfl rfl ?_
        refine v_aload_n (n' := 51) h dX2_limit_50 rfl rfl ?_
        refine v_iload_n (n' := 52) h dX2_limit_51 rfl rfl ?_
        refine vm_callI (n' := 55) h hok m41 (m_a _ _ ht) rfl (lw_V q1176 q1178 qs52 q87 q1179) hdX2_a (by decide) ⟨Nat.zero_le _, Nat.zero_le _⟩ (Nat.le_of_ble_eq_true rfl) dX2_limit_52 rfl rfl (fun z52 s52 p52 m52 => ?_)
        obtain ⟨e52, f52⟩ := p52
        have e52 := e52.symm
        have f52 := f52.symm
        subst e52 f52
        rw [ha]
        refine v_i2l (n' := 56) h dX2_limit_55 rfl (by omega) ?_
        refine v_lmul (n' := 57) h dX2_limit_56 rfl ?_
        refine v_lstore6 (n' := 59) h dX2_limit_57 rfl rfl ?_
        refine v_goto (tgt := 21) h dX2_limit_59 rfl ?_
        rw [← eg]
        refine ih (g + 1) _ _ (by omega) (by rw [hup, Int.pow_succ b (g + 1)]) (by rw [hdn, Int.pow_succ a (g + 1)]; rw [Int.mul_assoc, Int.mul_comm n a, ← Int.mul_assoc]) ?_
        rw [← hl]
        conv => rhs; unfold limF
        rw [if_pos (by omega)]
theorem m_limit (σ : MS) (t n a b : Int) (ht : t = 0 ∨ t = 1) (ha : (if t = 0 then σ.1 14 else σ.1 16) = a) (hb : (if t = 0 then σ.1 15 else σ.1 17) = b) (hab : isRat a b) (hn : 0 ≤ n ∧ n ≤ 41) : MCi yX2_limit cX2_limit 8 (some .int) 2 [.int (iI t), .int (iI n)] σ (fun z σ' => z = (lim a b n : Int) ∧ σ' = σ) := by
  intro ad hok hm
  have ab := rat_cases hab
  refine Ct.of (by decide) (EL.c1 rfl (EL.c1 rfl (EL.c1 rfl (EL.nn (EL.nn (EL.nn (EL.nn (EL.nn EL.n0)))))))) (fun Γ h hq hnm => ?_)
  refine v_iconst (n' := 1) h dX2_limit_0 rfl ?_
  refine v_istore3 (n' := 2) h dX2_limit_1 rfl rfl ?_
  refine v_aload_n (n' := 3) h dX2_limit_2 rfl rfl ?_
  refine v_iload_n (n' := 4) h dX2_limit_3 rfl rfl ?_
  refine vm_callI (n' := 7) h hok hm (m_b _ _ ht) rfl (lw_V q1172 q1174 qs51 q87 q1175) hdX2_b (by decide) ⟨Nat.zero_le _, Nat.zero_le _⟩ (Nat.le_of_ble_eq_true rfl) dX2_limit_4 rfl rfl (fun z4 s4 p4 m4 => ?_)
  obtain ⟨e4, f4⟩ := p4
  have e4 := e4.symm
  have f4 := f4.symm
  subst e4 f4
  rw [hb]
  refine v_i2l (n' := 8) h dX2_limit_7 rfl (by omega) ?_
  refine v_lstore4 (n' := 10) h dX2_limit_8 rfl rfl ?_
  refine v_aload_n (n' := 11) h dX2_limit_10 rfl rfl ?_
  refine v_iload_n (n' := 12) h dX2_limit_11 rfl rfl ?_
  refine vm_callI (n' := 15) h hok m4 (m_a _ _ ht) rfl (lw_V q1176 q1178 qs52 q87 q1179) hdX2_a (by decide) ⟨Nat.zero_le _, Nat.zero_le _⟩ (Nat.le_of_ble_eq_true rfl) dX2_limit_12 rfl rfl (fun z12 s12 p12 m12 => ?_)
  obtain ⟨e12, f12⟩ := p12
  have e12 := e12.symm
  have f12 := f12.symm
  subst e12 f12
  rw [ha]
  refine v_i2l (n' := 16) h dX2_limit_15 rfl (by omega) ?_
  refine v_iload_n (n' := 17) h dX2_limit_16 rfl rfl ?_
  refine v_i2l (n' := 18) h dX2_limit_17 rfl (by omega) ?_
  refine v_lmul (n' := 19) h dX2_limit_18 rfl ?_
  refine v_lstore6 (n' := 21) h dX2_limit_19 rfl rfl ?_
  exact m_limit_loop hok hm ht ha hb hab hn h hq 16 0 _ _ (by omega) (by simp [Int.pow_succ]) (by simp [Int.pow_succ]) rfl
/-! small writes -/
def hangS (σ : MS) (t key on : Int) : MS := if on = -1 then setA (if key = -1 then σ else setA σ 4 (100 * t + key) on) 6 t key else (if key = -1 then σ else setA σ 4 (100 * t + key) on)
theorem m_hang (σ : MS) (t key on : Int) (ht : t = 0 ∨ t = 1) (hk : -1 ≤ key ∧ key < 100) (ho : -1 ≤ on ∧ on < 100) : MCv yX2_hang cX2_hang 4 none 1 [.int (iI t), .int (iI key), .int (iI on)] σ (fun σ' => σ' = hangS σ t key on) := by
  intro ad hok hm
  refine Ct.of (by decide) (EL.c1 rfl (EL.c1 rfl (EL.c1 rfl (EL.c1 rfl EL.n0)))) (fun Γ h hq hnm => ?_)
  refine v_iload_n (n' := 1) h dX2_hang_0 rfl rfl ?_
  refine v_iconst (n' := 2) h dX2_hang_1 rfl ?_
  refine v_icmp_eq (n' := 5) (tgt := 17) h dX2_hang_2 rfl rfl (by omega) (by omega) (fun c2 => ?_) (fun c2 => ?_)
  · refine v_iload_n (n' := 18) h dX2_hang_17 rfl rfl ?_
    refine v_iconst (n' := 19) h dX2_hang_18 rfl ?_
    refine v_icmp_ne (n' := 22) (tgt := 29) h dX2_hang_19 rfl rfl (by omega) (by omega) (fun c19 => ?_) (fun c19 => ?_)
    · refine v_vret h hq dX2_hang_29 (Nat.le_refl _) (Nat.le_refl _) (ret_mv hm ?_)
      simp [hangS, c2, c19]
    · refine v_aload_n (n' := 23) h dX2_hang_22 rfl rfl ?_
      refine vm_geta (n' := 26) h 6 (by decide) q943 dX2_hang_23 rfl ?_
      refine v_iload_n (n' := 27) h dX2_hang_26 rfl rfl ?_
      refine v_iload_n (n' := 28) h dX2_hang_27 rfl rfl ?_
      refine vm_iast (n' := 29) h hok hm 6 2 (by decide) dX2_hang_28 rfl (by omega) (by decide) (by omega) (fun m28 => ?_)
      refine v_vret h hq dX2_hang_29 (Nat.le_refl _) (Nat.le_refl _) (ret_mv m28 ?_)
      simp [hangS, c2, c19]
  · refine v_aload_n (n' := 6) h dX2_hang_5 rfl rfl ?_
    refine vm_geta (n' := 9) h 4 (by decide) q941 dX2_hang_6 rfl ?_
    refine v_bipush (n' := 11) h dX2_hang_9 rfl (by decide) ?_
    refine v_iload_n (n' := 12) h dX2_hang_11 rfl rfl ?_
    refine v_imul (n' := 13) h dX2_hang_12 rfl ?_
    refine v_iload_n (n' := 14) h dX2_hang_13 rfl rfl ?_
    refine v_iadd (n' := 15) h dX2_hang_14 rfl ?_
    refine v_iload_n (n' := 16) h dX2_hang_15 rfl rfl ?_
    refine vm_iast (n' := 17) h hok hm 4 200 (by decide) dX2_hang_16 rfl (by omega) (by decide) (by omega) (fun m16 => ?_)
    refine v_iload_n (n' := 18) h dX2_hang_17 rfl rfl ?_
    refine v_iconst (n' := 19) h dX2_hang_18 rfl ?_
    refine v_icmp_ne (n' := 22) (tgt := 29) h dX2_hang_19 rfl rfl (by omega) (by omega) (fun c19 => ?_) (fun c19 => ?_)
    · refine v_vret h hq dX2_hang_29 (Nat.le_refl _) (Nat.le_refl _) (ret_mv m16 ?_)
      simp [hangS, c2, c19]
    · refine v_aload_n (n' := 23) h dX2_hang_22 rfl rfl ?_
      refine vm_geta (n' := 26) h 6 (by decide) q943 dX2_hang_23 rfl ?_
      refine v_iload_n (n' := 27) h dX2_hang_26 rfl rfl ?_
      refine v_iload_n (n' := 28) h dX2_hang_27 rfl rfl ?_
      refine vm_iast (n' := 29) h hok m16 6 2 (by decide) dX2_hang_28 rfl (by omega) (by decide) (by omega) (fun m28 => ?_)
      refine v_vret h hq dX2_hang_29 (Nat.le_refl _) (Nat.le_refl _) (ret_mv m28 ?_)
      simp [hangS, c2, c19]
def replS (σ : MS) (t old key : Int) : MS := hangS (if σ.2 4 (100 * t + old) ≠ -1 ∧ σ.2 2 (100 * t + σ.2 4 (100 * t + old)) = old then setA σ 2 (100 * t + σ.2 4 (100 * t + old)) key else if σ.2 4 (100 * t + old) ≠ -1 then setA σ 3 (100 * t + σ.2 4 (100 * t + old)) key else σ) t key (σ.2 4 (100 * t + old))
theorem m_replace (σ : MS) (t old key : Int) (ht : t = 0 ∨ t = 1) (hk : -1 ≤ key ∧ key < 100) (ho : 0 ≤ old ∧ old < 100) (hab : -1 ≤ σ.2 4 (100 * t + old) ∧ σ.2 4 (100 * t + old) < 100) : MCv yX2_replace cX2_replace 5 none 2 [.int (iI t), .int (iI old), .int (iI key)] σ (fun σ' => σ' = replS σ t old key) := by
  intro ad hok hm
  refine Ct.of (by decide) (EL.c1 rfl (EL.c1 rfl (EL.c1 rfl (EL.c1 rfl (EL.nn EL.n0))))) (fun Γ h hq hnm => ?_)
  refine v_aload_n (n' := 1) h dX2_replace_0 rfl rfl ?_
  refine vm_geta (n' := 4) h 4 (by decide) q941 dX2_replace_1 rfl ?_
  refine v_bipush (n' := 6) h dX2_replace_4 rfl (by decide) ?_
  refine v_iload_n (n' := 7) h dX2_replace_6 rfl rfl ?_
  refine v_imul (n' := 8) h dX2_replace_7 rfl ?_
  refine v_iload_n (n' := 9) h dX2_replace_8 rfl rfl ?_
  refine v_iadd (n' := 10) h dX2_replace_9 rfl ?_
  refine vm_iald (n' := 11) h hok hm 4 200 (by decide) dX2_replace_10 rfl (by omega) (by decide) (fun g10 => ?_)
  refine v_istore4 (n' := 13) h dX2_replace_11 rfl rfl ?_
  refine v_iload (n' := 15) h dX2_replace_13 rfl rfl ?_
  refine v_iconst (n' := 16) h dX2_replace_15 rfl ?_
  refine v_icmp_eq (n' := 19) (tgt := 51) h dX2_replace_16 rfl rfl (by omega) (by omega) (fun c16 => ?_) (fun c16 => ?_)
  · refine v_iload (n' := 53) h dX2_replace_51 rfl rfl ?_
    refine v_iconst (n' := 54) h dX2_replace_53 rfl ?_
    refine v_icmp_eq (n' := 57) (tgt := 70) h dX2_replace_54 rfl rfl (by omega) (by omega) (fun c54 => ?_) (fun c54 => ?_)
    · refine v_aload_n (n' := 71) h dX2_replace_70 rfl rfl ?_
      refine v_iload_n (n' := 72) h dX2_replace_71 rfl rfl ?_
      refine v_iload_n (n' := 73) h dX2_replace_72 rfl rfl ?_
      refine v_iload (n' := 75) h dX2_replace_73 rfl rfl ?_
      refine vm_callV (n' := 78) h hok hm (m_hang _ _ _ _ ht hk hab) rfl (lw_V q1156 q1158 qs47 q87 q1159) hdX2_hang (by decide) ⟨Nat.zero_le _, Nat.zero_le _⟩ (Nat.le_of_ble_eq_true rfl) dX2_replace_75 rfl rfl (fun s75 p75 m75 => ?_)
      have p75 := p75.symm
      subst p75
      refine v_vret h hq dX2_replace_78 (Nat.le_refl _) (Nat.le_refl _) (ret_mv m75 ?_)
      unfold replS
      rw [if_neg (fun z => z.1 c16), if_neg (fun z => z c16)]
    · exact absurd c16 c54
  · refine v_aload_n (n' := 20) h dX2_replace_19 rfl rfl ?_
    refine vm_geta (n' := 23) h 2 (by decide) q939 dX2_replace_20 rfl ?_
    refine v_bipush (n' := 25) h dX2_replace_23 rfl (by decide) ?_
    refine v_iload_n (n' := 26) h dX2_replace_25 rfl rfl ?_
    refine v_imul (n' := 27) h dX2_replace_26 rfl ?_
    refine v_iload (n' := 29) h dX2_replace_27 rfl rfl ?_
    refine v_iadd (n' := 30) h dX2_replace_29 rfl ?_
    refine vm_iald (n' := 31) h hok hm 2 200 (by decide) dX2_replace_30 rfl (by omega) (by decide) (fun g30 => ?_)
    refine v_iload_n (n' := 32) h dX2_replace_31 rfl rfl ?_
    refine v_icmp_ne (n' := 35) (tgt := 51) h dX2_replace_32 rfl rfl (by omega) (by omega) (fun c32 => ?_) (fun c32 => ?_)
    · refine v_iload (n' := 53) h dX2_replace_51 rfl rfl ?_
      refine v_iconst (n' := 54) h dX2_replace_53 rfl ?_
      refine v_icmp_eq (n' := 57) (tgt := 70) h dX2_replace_54 rfl rfl (by omega) (by omega) (fun c54 => ?_) (fun c54 => ?_)
      · exact absurd c54 c16
      · refine v_aload_n (n' := 58) h dX2_replace_57 rfl rfl ?_
        refine vm_geta (n' := 61) h 3 (by decide) q940 dX2_replace_58 rfl ?_
        refine v_bipush (n' := 63) h dX2_replace_61 rfl (by decide) ?_
        refine v_iload_n (n' := 64) h dX2_replace_63 rfl rfl ?_
        refine v_imul (n' := 65) h dX2_replace_64 rfl ?_
        refine v_iload (n' := 67) h dX2_replace_65 rfl rfl ?_
        refine v_iadd (n' := 68) h dX2_replace_67 rfl ?_
        refine v_iload_n (n' := 69) h dX2_replace_68 rfl rfl ?_
        refine vm_iast (n' := 70) h hok hm 3 200 (by decide) dX2_replace_69 rfl (by omega) (by decide) (by omega) (fun m69 => ?_)
        refine v_aload_n (n' := 71) h dX2_replace_70 rfl rfl ?_
        refine v_iload_n (n' := 72) h dX2_replace_71 rfl rfl ?_
        refine v_iload_n (n' := 73) h dX2_replace_72 rfl rfl ?_
        refine v_iload (n' := 75) h dX2_replace_73 rfl rfl ?_
        refine vm_callV (n' := 78) h hok m69 (m_hang _ _ _ _ ht hk hab) rfl (lw_V q1156 q1158 qs47 q87 q1159) hdX2_hang (by decide) ⟨Nat.zero_le _, Nat.zero_le _⟩ (Nat.le_of_ble_eq_true rfl) dX2_replace_75 rfl rfl (fun s75 p75 m75 => ?_)
        have p75 := p75.symm
        subst p75
        refine v_vret h hq dX2_replace_78 (Nat.le_refl _) (Nat.le_refl _) (ret_mv m75 ?_)
        unfold replS
        rw [if_neg (fun z => c32 z.2), if_pos c16]
    · refine v_aload_n (n' := 36) h dX2_replace_35 rfl rfl ?_
      refine vm_geta (n' := 39) h 2 (by decide) q939 dX2_replace_36 rfl ?_
      refine v_bipush (n' := 41) h dX2_replace_39 rfl (by decide) ?_
      refine v_iload_n (n' := 42) h dX2_replace_41 rfl rfl ?_
      refine v_imul (n' := 43) h dX2_replace_42 rfl ?_
      refine v_iload (n' := 45) h dX2_replace_43 rfl rfl ?_
      refine v_iadd (n' := 46) h dX2_replace_45 rfl ?_
      refine v_iload_n (n' := 47) h dX2_replace_46 rfl rfl ?_
      refine vm_iast (n' := 48) h hok hm 2 200 (by decide) dX2_replace_47 rfl (by omega) (by decide) (by omega) (fun m47 => ?_)
      refine v_goto (tgt := 70) h dX2_replace_48 rfl ?_
      refine v_aload_n (n' := 71) h dX2_replace_70 rfl rfl ?_
      refine v_iload_n (n' := 72) h dX2_replace_71 rfl rfl ?_
      refine v_iload_n (n' := 73) h dX2_replace_72 rfl rfl ?_
      refine v_iload (n' := 75) h dX2_replace_73 rfl rfl ?_
      refine vm_callV (n' := 78) h hok m47 (m_hang _ _ _ _ ht hk hab) rfl (lw_V q1156 q1158 qs47 q87 q1159) hdX2_hang (by decide) ⟨Nat.zero_le _, Nat.zero_le _⟩ (Nat.le_of_ble_eq_true rfl) dX2_replace_75 rfl rfl (fun s75 p75 m75 => ?_)
      have p75 := p75.symm
      subst p75
      refine v_vret h hq dX2_replace_78 (Nat.le_refl _) (Nat.le_refl _) (ret_mv m75 ?_)
      unfold replS
      rw [if_pos ⟨c16, c32⟩]
def payS (σ : MS) (t so : Int) : MS := if t = 0 then setI (setI σ 19 (σ.1 19 + so)) 20 (if σ.1 19 + so < σ.1 20 then σ.1 19 + so else σ.1 20) else σ
theorem m_pay (σ : MS) (t so : Int) (ht : t = 0 ∨ t = 1) (hs : -10000 ≤ so ∧ so ≤ 10000) (hc : -1000000000 ≤ σ.1 19 ∧ σ.1 19 ≤ 1000000000) : MCv yX2_pay cX2_pay 3 none 1 [.int (iI t), .int (iI so)] σ (fun σ' => σ' = payS σ t so) := by
  intro ad hok hm
  refine Ct.of (by decide) (EL.c1 rfl (EL.c1 rfl (EL.c1 rfl EL.n0))) (fun Γ h hq hnm => ?_)
  have e19 : (setI σ 19 (σ.1 19 + so)).1 19 = σ.1 19 + so := setI_1s
  have e20 : (setI σ 19 (σ.1 19 + so)).1 20 = σ.1 20 := setI_1n (by decide)
  refine v_iload_n (n' := 1) h dX2_pay_0 rfl rfl ?_
  refine v_if_ne (n' := 4) (tgt := 40) h dX2_pay_1 rfl rfl (by omega) (fun c1 => ?_) (fun c1 => ?_)
  · refine v_vret h hq dX2_pay_40 (Nat.le_refl _) (Nat.le_refl _) (ret_mv hm ?_)
    unfold payS
    rw [if_neg c1]
  · refine v_aload_n (n' := 5) h dX2_pay_4 rfl rfl ?_
    refine v_dup (n' := 6) h dX2_pay_5 rfl rfl ?_
    refine vm_geti (n' := 9) h hm 19 (by decide) q956 dX2_pay_6 rfl (fun g6 => ?_)
    refine v_iload_n (n' := 10) h dX2_pay_9 rfl rfl ?_
    refine v_iadd (n' := 11) h dX2_pay_10 rfl ?_
    refine vm_puti (n' := 14) h hm 19 (by decide) q956 dX2_pay_11 rfl (by omega) (fun m11 => ?_)
    refine v_aload_n (n' := 15) h dX2_pay_14 rfl rfl ?_
    refine v_aload_n (n' := 16) h dX2_pay_15 rfl rfl ?_
    refine vm_geti (n' := 19) h m11 19 (by decide) q956 dX2_pay_16 rfl (fun g16 => ?_)
    refine v_aload_n (n' := 20) h dX2_pay_19 rfl rfl ?_
    refine vm_geti (n' := 23) h m11 20 (by decide) q957 dX2_pay_20 rfl (fun g20 => ?_)
    refine v_icmp_ge (n' := 26) (tgt := 33) h dX2_pay_23 rfl rfl (by omega) (by omega) (fun c23 => ?_) (fun c23 => ?_)
    · refine v_aload_n (n' := 34) h dX2_pay_33 rfl rfl ?_
      refine vm_geti (n' := 37) h m11 20 (by decide) q957 dX2_pay_34 rfl (fun g34 => ?_)
      refine vm_puti (n' := 40) h m11 20 (by decide) q957 dX2_pay_37 rfl (by omega) (fun m37 => ?_)
      refine v_vret h hq dX2_pay_40 (Nat.le_refl _) (Nat.le_refl _) (ret_mv m37 ?_)
      unfold payS
      rw [if_pos c1, e20, if_neg (by omega)]
    · refine v_aload_n (n' := 27) h dX2_pay_26 rfl rfl ?_
      refine vm_geti (n' := 30) h m11 19 (by decide) q956 dX2_pay_27 rfl (fun g27 => ?_)
      refine v_goto (tgt := 37) h dX2_pay_30 rfl ?_
      refine vm_puti (n' := 40) h m11 20 (by decide) q957 dX2_pay_37 rfl (by omega) (fun m37 => ?_)
      refine v_vret h hq dX2_pay_40 (Nat.le_refl _) (Nat.le_refl _) (ret_mv m37 ?_)
      unfold payS
      rw [if_pos c1, e19, if_pos (by omega)]
def rowS (σ : MS) (l : List Nat) : MS := (σ.1, fun f i => if f = 24 ∧ 0 ≤ i ∧ i < (l.length : Int) then ((l.getD i.toNat 0 : Nat) : Int) else σ.2 f i)
theorem rowS_nil (σ : MS) : rowS σ [] = σ := by
  unfold rowS
  refine Prod.ext rfl ?_
  funext f i
  simp only [List.length_nil]
  rw [if_neg (by omega)]
theorem rowS_snoc (σ : MS) (l : List Nat) (k : Nat) : setA (rowS σ l) 24 (l.length : Int) (k : Int) = rowS σ (l ++ [k]) := by
  refine Prod.ext rfl ?_
  funext f i
  rw [setA_2]
  unfold rowS
  simp only [List.length_append, List.length_cons, List.length_nil]
  by_cases c : f = 24 ∧ i = (l.length : Int)
  · rw [if_pos c, if_pos ⟨c.1, by omega, by omega⟩, c.2]
    simp
  · rw [if_neg c]
    by_cases c2 : f = 24 ∧ 0 ≤ i ∧ i < (l.length : Int)
    · have h3 : i.toNat < l.length := by omega
      rw [if_pos c2, if_pos ⟨c2.1, c2.2.1, by omega⟩]
      simp [List.getD, List.getElem?_append_left h3]
    · rw [if_neg c2, if_neg (fun z => by
        by_cases e : i = (l.length : Int)
        · exact c ⟨z.1, e⟩
        · exact c2 ⟨z.1, z.2.1, by omega⟩)]
theorem rowS_o {σ : MS} {l : List Nat} {f : Nat} {i : Int} (h : f ≠ 24) : (rowS σ l).2 f i = σ.2 f i := if_neg (fun z => h z.1)
theorem rowS_at {σ : MS} {l : List Nat} {i : Nat} (h : i < l.length) : (rowS σ l).2 24 (i : Int) = ((l.getD i 0 : Nat) : Int) := by
  unfold rowS
  dsimp only
  rw [if_pos ⟨rfl, by omega, by omega⟩, Int.toNat_natCast]
/-- a tree's links: read at its own keys alone -/
theorem RepT.cg {σ σ' : MS} {t : Int} {T : Tr} (e : ∀ k ∈ tl T, σ'.2 2 (100 * t + (k : Int)) = σ.2 2 (100 * t + (k : Int)) ∧ σ'.2 3 (100 * t + (k : Int)) = σ.2 3 (100 * t + (k : Int)) ∧ σ'.2 4 (100 * t + (k : Int)) = σ.2 4 (100 * t + (k : Int))) : ∀ {on : Int}, RepT σ t on T → RepT σ' t on T := by
  induction T with
  | leaf u => intro on h; exact h
  | branch k l r ihl ihr =>
    intro on h
    obtain ⟨h1, h2, h3, h4, h5⟩ := h
    obtain ⟨e1, e2, e3⟩ := e k (mem_br.mpr (Or.inr (Or.inl rfl)))
    exact ⟨by rw [e3]; exact h1, by rw [e1]; exact h2, by rw [e2]; exact h3, ihl (fun x hx => e x (mem_br.mpr (Or.inl hx))) h4, ihr (fun x hx => e x (mem_br.mpr (Or.inr (Or.inr hx)))) h5⟩
theorem LR.cg {σ σ' : MS} {t : Int} {T : Tr} (h : LR σ t T) (e : ∀ f i, 2 ≤ f → f ≤ 6 → σ'.2 f i = σ.2 f i) : LR σ' t T := by
  obtain ⟨h1, h2, h3, h4⟩ := h
  exact ⟨h1.cg (fun k _ => ⟨e 2 _ (by omega) (by omega), e 3 _ (by omega) (by omega), e 4 _ (by omega) (by omega)⟩), by rw [e 6 _ (by omega) (by omega)]; exact h2, fun k hk => by rw [e 5 _ (by omega) (by omega)]; exact h3 k hk, h4⟩
theorem m_layRow_loop {Γ : GX} {σ : MS} {ad : Nat → Nat} {t : Int} {T : Tr} {q : Nat} (hok : AdOk ad) (ht : t = 0 ∨ t = 1) (hT : LR σ t T) (hk : q ∈ tl T) (h : Ok0 cX2_layRow yX2_layRow.cls none (rmL 2) Γ) (hq : Rt (PV ad (fun σ' => σ' = rowS σ (tl (sub T q)))) 0 0 Γ) :
    ∀ (n k : Nat), k + n = 100 → MR (rowS σ (bel T q k)) → V Γ 0 0 (mH ad (rowS σ (bel T q k))) 5 [some (.ref (ad 50)), some (.int (iI t)), some (.int (iI (q : Int))), some (.int (iI ((bel T q k).length : Int))), some (.int (iI (k : Int)))] [] := by
  intro n
  have hq1 : q < 100 := hT.2.2.2.2.1 q hk
  have hz := hT.2.2.2.2.2
  induction n with
  | zero =>
    intro k hkn hm
    obtain rfl : k = 100 := by omega
    have e := bel_100 hT.2.2.2.1 hT.2.2.2.2.1 hk
    rw [e] at hm ⊢
    refine v_iload (n' := 7) h dX2_layRow_5 rfl rfl ?_
    refine v_bipush (n' := 9) h dX2_layRow_7 rfl (by decide) ?_
    refine v_icmp_ge (n' := 12) (tgt := 56) h dX2_layRow_9 rfl rfl (by omega) (by omega) (fun c9 => ?_) (fun c9 => ?_)
    · refine v_vret h hq dX2_layRow_56 (Nat.le_refl _) (Nat.le_refl _) (ret_mv hm ?_)
      rfl
    · exact absurd (by decide) c9
  | succ n ih =>
    intro k hkn hm
    have e := bel_s hT.2.2.2.1 q k
    have hl := bel_len (T := T) (q := q) (k := k)
    have hth := hT.2.2.1 k (by omega)
    have hT' : LR (rowS σ (bel T q k)) t T := hT.cg (fun f i _ _ => rowS_o (by omega))
    have e5 : (rowS σ (bel T q k)).2 5 (100 * t + (k : Int)) = σ.2 5 (100 * t + (k : Int)) := rowS_o (by decide)
    have ih := ih (k + 1) (by omega)
    have ek : ((k + 1 : Nat) : Int) = (k : Int) + 1 := by omega
    have hlt : (bel T q k).length < 40 ∨ ¬ (k ∈ tl T ∧ q ∈ way T k) := by
      by_cases z : k ∈ tl T ∧ q ∈ way T k
      · have := bel_len (T := T) (q := q) (k := k + 1)
        rw [e, if_pos z, List.length_append] at this
        simp at this
        omega
      · exact Or.inr z
    rw [ek] at ih
    refine v_iload (n' := 7) h dX2_layRow_5 rfl rfl ?_
    refine v_bipush (n' := 9) h dX2_layRow_7 rfl (by decide) ?_
    refine v_icmp_ge (n' := 12) (tgt := 56) h dX2_layRow_9 rfl rfl (by omega) (by omega) (fun c9 => ?_) (fun c9 => ?_)
    · exact absurd c9 (by omega)
    · refine v_aload_n (n' := 13) h dX2_layRow_12 rfl rfl ?_
      refine vm_geta (n' := 16) h 5 (by decide) q942 dX2_layRow_13 rfl ?_
      refine v_bipush (n' := 18) h dX2_layRow_16 rfl (by decide) ?_
      refine v_iload_n (n' := 19) h dX2_layRow_18 rfl rfl ?_
      refine v_imul (n' := 20) h dX2_layRow_19 rfl ?_
      refine v_iload (n' := 22) h dX2_layRow_20 rfl rfl ?_
      refine v_iadd (n' := 23) h dX2_layRow_22 rfl ?_
      refine vm_iald (n' := 24) h hok hm 5 200 (by decide) dX2_layRow_23 rfl (by omega) (by decide) (fun g23 => ?_)
      refine v_iconst (n' := 25) h dX2_layRow_24 rfl ?_
      refine v_icmp_ne (n' := 28) (tgt := 50) h dX2_layRow_25 rfl rfl (by omega) (by omega) (fun c25 => ?_) (fun c25 => ?_)
      · have nk : ¬ k ∈ tl T := fun z => by rw [if_pos z] at hth; omega
        refine v_iinc4 (n' := 53) h dX2_layRow_50 rfl rfl ?_
        refine v_goto (tgt := 5) h dX2_layRow_53 rfl ?_
        have e2 : bel T q (k + 1) = bel T q k := by rw [e, if_neg (fun z => nk z.1), List.append_nil]
        rw [e2] at ih
        exact ih hm
      · have hkT : k ∈ tl T := Classical.byContradiction (fun z => by rw [if_neg z] at hth; omega)
        refine v_aload_n (n' := 29) h dX2_layRow_28 rfl rfl ?_
        refine v_iload_n (n' := 30) h dX2_layRow_29 rfl rfl ?_
        refine v_iload (n' := 32) h dX2_layRow_30 rfl rfl ?_
        refine v_iload_n (n' := 33) h dX2_layRow_32 rfl rfl ?_
        refine vm_callI (n' := 36) h hok hm (m_isBelow _ _ ht T hT' k q hkT hq1) rfl (lw_V q1188 q1190 qs55 q87 q1191) hdX2_isBelow (by decide) ⟨Nat.zero_le _, Nat.zero_le _⟩ (Nat.le_of_ble_eq_true rfl) dX2_layRow_33 rfl rfl (fun z33 s33 p33 m33 => ?_)
        obtain ⟨e33, f33⟩ := p33
        have e33 := e33.symm
        have f33 := f33.symm
        subst e33 f33
        refine v_bif_eq (n' := 39) (tgt := 50) h dX2_layRow_36 rfl rfl (fun c36 => ?_) (fun c36 => ?_)
        · refine v_iinc4 (n' := 53) h dX2_layRow_50 rfl rfl ?_
          refine v_goto (tgt := 5) h dX2_layRow_53 rfl ?_
          have e2 : bel T q (k + 1) = bel T q k := by rw [e, if_neg (fun z => c36 z.2), List.append_nil]
          rw [e2] at ih
          exact ih hm
        · refine v_aload_n (n' := 40) h dX2_layRow_39 rfl rfl ?_
          refine vm_geta (n' := 43) h 24 (by decide) q961 dX2_layRow_40 rfl ?_
          refine v_iload_n (n' := 44) h dX2_layRow_43 rfl rfl ?_
          refine v_iload (n' := 46) h dX2_layRow_44 rfl rfl ?_
          refine vm_iast (n' := 47) h hok m33 24 40 (by decide) dX2_layRow_46 rfl (by
            have h46 : (bel T q k).length < 40 := hlt.resolve_right (fun z => z ⟨hkT, c36⟩)
            omega) (by decide) (by omega) (fun m46 => ?_)
          refine v_iinc3 (n' := 50) h dX2_layRow_47 rfl rfl ?_
          refine v_iinc4 (n' := 53) h dX2_layRow_50 rfl rfl ?_
          refine v_goto (tgt := 5) h dX2_layRow_53 rfl ?_
          have e2 : bel T q (k + 1) = bel T q k ++ [k] := by rw [e, if_pos ⟨hkT, c36⟩]
          rw [e2, ← rowS_snoc] at ih
          have e3 : (((bel T q k ++ [k]).length : Nat) : Int) = ((bel T q k).length : Int) + 1 := by simp
          rw [e3] at ih
          exact ih m46
theorem m_layRow (σ : MS) (t : Int) (ht : t = 0 ∨ t = 1) (T : Tr) (hT : LR σ t T) (q : Nat) (hk : q ∈ tl T) : MCv yX2_layRow cX2_layRow 5 none 2 [.int (iI t), .int (iI (q : Int))] σ (fun σ' => σ' = rowS σ (tl (sub T q))) := by
  intro ad hok hm
  refine Ct.of (by decide) (EL.c1 rfl (EL.c1 rfl (EL.c1 rfl (EL.nn (EL.nn EL.n0))))) (fun Γ h hq hnm => ?_)
  have lp := m_layRow_loop hok ht hT hk h hq 100 0 (by omega)
  rw [bel_0, rowS_nil] at lp
  refine v_iconst (n' := 1) h dX2_layRow_0 rfl ?_
  refine v_istore3 (n' := 2) h dX2_layRow_1 rfl rfl ?_
  refine v_iconst (n' := 3) h dX2_layRow_2 rfl ?_
  refine v_istore4 (n' := 5) h dX2_layRow_3 rfl rfl ?_
  exact lp hm
