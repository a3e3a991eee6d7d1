/-! MODEL 2: a tree in rows: what is read of it -/
set_option maxRecDepth 100000
/-- the links of a tree, below 'on' -/
def RepT (σ : MS) (t : Int) : Int → Tr → Prop
  | _, .leaf _ => True
  | on, .branch k l r => σ.2 4 (100 * t + (k : Int)) = on ∧ σ.2 2 (100 * t + (k : Int)) = rk l ∧ σ.2 3 (100 * t + (k : Int)) = rk r ∧ RepT σ t (k : Int) l ∧ RepT σ t (k : Int) r
def LR (σ : MS) (t : Int) (T : Tr) : Prop := RepT σ t (-1) T ∧ σ.2 6 t = rk T ∧ (∀ k : Nat, k < 100 → σ.2 5 (100 * t + (k : Int)) = if k ∈ tl T then 1 else 0) ∧ Srt T ∧ (∀ k ∈ tl T, k < 100) ∧ tz T ≤ 40
def Par (σ : MS) (t : Int) : List Nat → Int → Prop
  | [], v => v = -1
  | y :: l, v => v = (y : Int) ∧ y < 100 ∧ Par σ t l (σ.2 4 (100 * t + (y : Int)))
theorem par_way {σ : MS} {t : Int} {T : Tr} {k : Nat} (hs : Srt T) (hb : ∀ x ∈ tl T, x < 100) (h : k ∈ tl T) : ∀ (on : Int) (L : List Nat), RepT σ t on T → Par σ t L on → Par σ t ((way T k).reverse ++ L) (k : Int) := by
  induction T with
  | leaf u => simp [tl] at h
  | branch x l r ihl ihr =>
    intro on L hR hP
    obtain ⟨r1, -, -, r4, r5⟩ := hR
    have hx : x < 100 := hb x (mem_br.mpr (Or.inr (Or.inl rfl)))
    have hP' : Par σ t (x :: L) (x : Int) := ⟨rfl, hx, by rw [r1]; exact hP⟩
    rw [way_br]
    by_cases c : k = x
    · rw [if_pos c, c]; exact hP'
    · rw [if_neg c]
      by_cases c2 : k < x
      · rw [if_pos c2, List.reverse_cons, List.append_assoc]
        exact ihl (srt_br.mp hs).1 (fun y hy => hb y (mem_br.mpr (Or.inl hy))) (mem_l hs h c2) _ _ r4 hP'
      · rw [if_neg c2, List.reverse_cons, List.append_assoc]
        exact ihr (srt_br.mp hs).2.1 (fun y hy => hb y (mem_br.mpr (Or.inr (Or.inr hy)))) (mem_r hs h (by omega)) _ _ r5 hP'
theorem par_of {σ : MS} {t : Int} {T : Tr} {k : Nat} (hT : LR σ t T) (h : k ∈ tl T) : Par σ t (way T k).reverse (k : Int) := by
  have := par_way hT.2.2.2.1 hT.2.2.2.2.1 h (-1) [] hT.1 rfl
  rwa [List.append_nil] at this
/-- how deep a key lies -/
def dep (T : Tr) (k : Nat) : Nat := (way T k).length - 1
theorem m_a (σ : MS) (t : Int) (ht : t = 0 ∨ t = 1) : MCi yX2_a cX2_a 2 (some .int) 1 [.int (iI t)] σ (fun z σ' => z = (if t = 0 then σ.1 14 else σ.1 16) ∧ σ' = σ) := by
  intro ad hok hm
  refine Ct.of (by decide) (EL.c1 rfl (EL.c1 rfl EL.n0)) (fun Γ h hq hnm => ?_)
  refine v_iload_n (n' := 1) h dX2_a_0 rfl rfl ?_
  refine v_if_ne (n' := 4) (tgt := 11) h dX2_a_1 rfl rfl (by omega) (fun c1 => ?_) (fun c1 => ?_)
  · refine v_aload_n (n' := 12) h dX2_a_11 rfl rfl ?_
    refine vm_geti (n' := 15) h hm 16 (by decide) q953 dX2_a_12 rfl (fun g12 => ?_)
    refine v_iret h hq dX2_a_15 (Nat.le_refl _) (Nat.le_refl _) (ret_mi hm ?_)
    exact ⟨by simp [c1], rfl⟩
  · refine v_aload_n (n' := 5) h dX2_a_4 rfl rfl ?_
    refine vm_geti (n' := 8) h hm 14 (by decide) q951 dX2_a_5 rfl (fun g5 => ?_)
    refine v_goto (tgt := 15) h dX2_a_8 rfl ?_
    refine v_iret h hq dX2_a_15 (Nat.le_refl _) (Nat.le_refl _) (ret_mi hm ?_)
    exact ⟨by simp [c1], rfl⟩
theorem m_b (σ : MS) (t : Int) (ht : t = 0 ∨ t = 1) : MCi yX2_b cX2_b 2 (some .int) 1 [.int (iI t)] σ (fun z σ' => z = (if t = 0 then σ.1 15 else σ.1 17) ∧ σ' = σ) := by
  intro ad hok hm
  refine Ct.of (by decide) (EL.c1 rfl (EL.c1 rfl EL.n0)) (fun Γ h hq hnm => ?_)
  refine v_iload_n (n' := 1) h dX2_b_0 rfl rfl ?_
  refine v_if_ne (n' := 4) (tgt := 11) h dX2_b_1 rfl rfl (by omega) (fun c1 => ?_) (fun c1 => ?_)
  · refine v_aload_n (n' := 12) h dX2_b_11 rfl rfl ?_
    refine vm_geti (n' := 15) h hm 17 (by decide) q954 dX2_b_12 rfl (fun g12 => ?_)
    refine v_iret h hq dX2_b_15 (Nat.le_refl _) (Nat.le_refl _) (ret_mi hm ?_)
    exact ⟨by simp [c1], rfl⟩
  · refine v_aload_n (n' := 5) h dX2_b_4 rfl rfl ?_
    refine vm_geti (n' := 8) h hm 15 (by decide) q952 dX2_b_5 rfl (fun g5 => ?_)
    refine v_goto (tgt := 15) h dX2_b_8 rfl ?_
    refine v_iret h hq dX2_b_15 (Nat.le_refl _) (Nat.le_refl _) (ret_mi hm ?_)
    exact ⟨by simp [c1], rfl⟩
theorem m_depth_loop {Γ : GX} {σ : MS} {ad : Nat → Nat} {t w s0 : Int} (hok : AdOk ad) (hm : MR σ) (ht : t = 0 ∨ t = 1) (hs0 : 0 ≤ s0 ∧ s0 ≤ 1000) (h : Ok0 cX2_depth yX2_depth.cls (some .int) (rmL 1) Γ) (hq : Rt (PI ad (fun z σ' => z = s0 ∧ σ' = σ)) 0 0 Γ) :
    ∀ (l : List Nat) (v sum : Int), Par σ t l v → sum + (l.length : Int) = s0 → 0 ≤ sum → V Γ 0 0 (mH ad σ) 15 [some (.ref (ad 50)), some (.int (iI t)), some (.int (iI w)), some (.int (iI sum)), some (.int (iI v))] [] := by
  intro l
  induction l with
  | nil =>
    intro v sum hP hs h0
    have hP : v = -1 := hP
    refine v_iload (n' := 17) h dX2_depth_15 rfl rfl ?_
    refine v_iconst (n' := 18) h dX2_depth_17 rfl ?_
    refine v_icmp_eq (n' := 21) (tgt := 41) h dX2_depth_18 rfl rfl (by omega) (by omega) (fun c18 => ?_) (fun c18 => ?_)
    · refine v_iload_n (n' := 42) h dX2_depth_41 rfl rfl ?_
      refine v_iret h hq dX2_depth_42 (Nat.le_refl _) (Nat.le_refl _) (ret_mi hm ?_)
      exact ⟨by simpa using hs, rfl⟩
    · exact absurd hP c18
  | cons y l ih =>
    intro v sum hP hs h0
    obtain ⟨h1, h2, h3⟩ := hP
    subst h1
    have hs : sum + ((l.length : Int) + 1) = s0 := by simpa using hs
    refine v_iload (n' := 17) h dX2_depth_15 rfl rfl ?_
    refine v_iconst (n' := 18) h dX2_depth_17 rfl ?_
    refine v_icmp_eq (n' := 21) (tgt := 41) h dX2_depth_18 rfl rfl (by omega) (by omega) (fun c18 => ?_) (fun c18 => ?_)
    · exact absurd c18 (by omega)
    · refine v_iinc3 (n' := 24) h dX2_depth_21 rfl rfl ?_
      refine v_aload_n (n' := 25) h dX2_depth_24 rfl rfl ?_
      refine vm_geta (n' := 28) h 4 (by decide) q941 dX2_depth_25 rfl ?_
      refine v_bipush (n' := 30) h dX2_depth_28 rfl (by decide) ?_
      refine v_iload_n (n' := 31) h dX2_depth_30 rfl rfl ?_
      refine v_imul (n' := 32) h dX2_depth_31 rfl ?_
      refine v_iload (n' := 34) h dX2_depth_32 rfl rfl ?_
      refine v_iadd (n' := 35) h dX2_depth_34 rfl ?_
      refine vm_iald (n' := 36) h hok hm 4 200 (by decide) dX2_depth_35 rfl (by omega) (by decide) (fun g35 => ?_)
      refine v_istore4 (n' := 38) h dX2_depth_36 rfl rfl ?_
      refine v_goto (tgt := 15) h dX2_depth_38 rfl ?_
      exact ih _ _ h3 (by omega) (by omega)
theorem m_depth (σ : MS) (t : Int) (ht : t = 0 ∨ t = 1) (T : Tr) (hT : LR σ t T) (k : Nat) (hk : k ∈ tl T) : MCi yX2_depth cX2_depth 5 (some .int) 1 [.int (iI t), .int (iI (k : Int))] σ (fun z σ' => z = (dep T k : Int) ∧ σ' = σ) := by
  intro ad hok hm
  obtain ⟨p, hp⟩ := way_self hT.2.2.2.1 hk
  have hpar := par_of hT hk
  rw [hp, List.reverse_append, List.reverse_singleton] at hpar
  obtain ⟨-, hk1, hpar⟩ := hpar
  have hd : dep T k = p.length := by unfold dep; rw [hp]; simp
  have hpl : p.length ≤ 100 := by
    have h1 : (way T k).length ≤ tz T := by
      clear hd hp hpar
      revert k
      have hs := hT.2.2.2.1
      clear hT
      intro k hk _
      clear hk
      induction T generalizing k with
      | leaf u => simp [way]
      | branch x l r ihl ihr =>
        have a := ihl (srt_br.mp hs).1 (k := k)
        have b := ihr (srt_br.mp hs).2.1 (k := k)
        rw [way_br]
        simp only [tz]
        split
        · simp
        · split
          · simp only [List.length_cons]; omega
          · simp only [List.length_cons]; omega
    rw [hp] at h1
    have := hT.2.2.2.2.2
    simp at h1
    omega
  refine Ct.of (by decide) (EL.c1 rfl (EL.c1 rfl (EL.c1 rfl (EL.nn (EL.nn EL.n0))))) (fun Γ h hq hnm => ?_)
  rw [hd] at hq
  refine v_iconst (n' := 1) h dX2_depth_0 rfl ?_
  refine v_istore3 (n' := 2) h dX2_depth_1 rfl rfl ?_
  refine v_aload_n (n' := 3) h dX2_depth_2 rfl rfl ?_
  refine vm_geta (n' := 6) h 4 (by decide) q941 dX2_depth_3 rfl ?_
  refine v_bipush (n' := 8) h dX2_depth_6 rfl (by decide) ?_
  refine v_iload_n (n' := 9) h dX2_depth_8 rfl rfl ?_
  refine v_imul (n' := 10) h dX2_depth_9 rfl ?_
  refine v_iload_n (n' := 11) h dX2_depth_10 rfl rfl ?_
  refine v_iadd (n' := 12) h dX2_depth_11 rfl ?_
  refine vm_iald (n' := 13) h hok hm 4 200 (by decide) dX2_depth_12 rfl (by omega) (by decide) (fun g12 => ?_)
  refine v_istore4 (n' := 15) h dX2_depth_13 rfl rfl ?_
  exact m_depth_loop hok hm ht (by omega) h hq p.reverse _ _ hpar (by simp) (by omega)
theorem way_len {T : Tr} {k : Nat} : (way T k).length ≤ tz T := by
  induction T with
  | leaf u => simp [way]
  | branch x l r ihl ihr =>
    rw [way_br]
    simp only [tz]
    split
    · simp
    · split
      · simp only [List.length_cons]; omega
      · simp only [List.length_cons]; omega
theorem dep_le {T : Tr} {k : Nat} : dep T k ≤ tz T := by
  have := way_len (T := T) (k := k)
  unfold dep
  omega
theorem m_isBelow_loop {Γ : GX} {σ : MS} {ad : Nat → Nat} {t w : Int} {q : Nat} {P : Prop} (hok : AdOk ad) (hm : MR σ) (ht : t = 0 ∨ t = 1) (hq1 : q < 100) (h : Ok0 cX2_isBelow yX2_isBelow.cls (some .boolean) (rmL 1) Γ) (hq : Rt (PI ad (fun z σ' => z = bi P ∧ σ' = σ)) 0 0 Γ) :
    ∀ (l : List Nat) (v : Int), Par σ t l v → (q ∈ l ↔ P) → V Γ 0 0 (mH ad σ) 3 [some (.ref (ad 50)), some (.int (iI t)), some (.int (iI w)), some (.int (iI (q : Int))), some (.int (iI v))] [] := by
  intro l
  induction l with
  | nil =>
    intro v hP hs
    have hP : v = -1 := hP
    refine v_iload (n' := 5) h dX2_isBelow_3 rfl rfl ?_
    refine v_iconst (n' := 6) h dX2_isBelow_5 rfl ?_
    refine v_icmp_eq (n' := 9) (tgt := 32) h dX2_isBelow_6 rfl rfl (by omega) (by omega) (fun c6 => ?_) (fun c6 => ?_)
    · refine v_iload (n' := 34) h dX2_isBelow_32 rfl rfl ?_
      refine v_iload_n (n' := 35) h dX2_isBelow_34 rfl rfl ?_
      refine v_icmp_ne (n' := 38) (tgt := 42) h dX2_isBelow_35 rfl rfl (by omega) (by omega) (fun c35 => ?_) (fun c35 => ?_)
      · refine v_iconst (n' := 43) h dX2_isBelow_42 rfl ?_
        refine v_zret h hq dX2_isBelow_43 (by decide) (Nat.le_refl _) (Nat.le_refl _) (ret_mi hm ?_)
        exact ⟨(bi_f (fun z => by have := hs.mpr z; simp at this)).symm, rfl⟩
      · exact absurd c35 (by omega)
    · exact absurd hP c6
  | cons y l ih =>
    intro v hP hs
    obtain ⟨h1, h2, h3⟩ := hP
    subst h1
    refine v_iload (n' := 5) h dX2_isBelow_3 rfl rfl ?_
    refine v_iconst (n' := 6) h dX2_isBelow_5 rfl ?_
    refine v_icmp_eq (n' := 9) (tgt := 32) h dX2_isBelow_6 rfl rfl (by omega) (by omega) (fun c6 => ?_) (fun c6 => ?_)
    · exact absurd c6 (by omega)
    · refine v_iload (n' := 11) h dX2_isBelow_9 rfl rfl ?_
      refine v_iload_n (n' := 12) h dX2_isBelow_11 rfl rfl ?_
      refine v_icmp_eq (n' := 15) (tgt := 32) h dX2_isBelow_12 rfl rfl (by omega) (by omega) (fun c12 => ?_) (fun c12 => ?_)
      · refine v_iload (n' := 34) h dX2_isBelow_32 rfl rfl ?_
        refine v_iload_n (n' := 35) h dX2_isBelow_34 rfl rfl ?_
        refine v_icmp_ne (n' := 38) (tgt := 42) h dX2_isBelow_35 rfl rfl (by omega) (by omega) (fun c35 => ?_) (fun c35 => ?_)
        · exact absurd c12 c35
        · refine v_iconst (n' := 39) h dX2_isBelow_38 rfl ?_
          refine v_goto (tgt := 43) h dX2_isBelow_39 rfl ?_
          refine v_zret h hq dX2_isBelow_43 (by decide) (Nat.le_refl _) (Nat.le_refl _) (ret_mi hm ?_)
          obtain rfl : y = q := by omega
          exact ⟨(bi_t (hs.mp List.mem_cons_self)).symm, rfl⟩
      · refine v_aload_n (n' := 16) h dX2_isBelow_15 rfl rfl ?_
        refine vm_geta (n' := 19) h 4 (by decide) q941 dX2_isBelow_16 rfl ?_
        refine v_bipush (n' := 21) h dX2_isBelow_19 rfl (by decide) ?_
        refine v_iload_n (n' := 22) h dX2_isBelow_21 rfl rfl ?_
        refine v_imul (n' := 23) h dX2_isBelow_22 rfl ?_
        refine v_iload (n' := 25) h dX2_isBelow_23 rfl rfl ?_
        refine v_iadd (n' := 26) h dX2_isBelow_25 rfl ?_
        refine vm_iald (n' := 27) h hok hm 4 200 (by decide) dX2_isBelow_26 rfl (by omega) (by decide) (fun g26 => ?_)
        refine v_istore4 (n' := 29) h dX2_isBelow_27 rfl rfl ?_
        refine v_goto (tgt := 3) h dX2_isBelow_29 rfl ?_
        refine ih _ h3 ⟨fun z => hs.mp (List.mem_cons_of_mem _ z), fun z => ?_⟩
        rcases List.mem_cons.mp (hs.mpr z) with e | e
        · exact absurd (by omega) c12
        · exact e
theorem m_isBelow (σ : MS) (t : Int) (ht : t = 0 ∨ t = 1) (T : Tr) (hT : LR σ t T) (k q : Nat) (hk : k ∈ tl T) (hq1 : q < 100) : MCi yX2_isBelow cX2_isBelow 5 (some .boolean) 1 [.int (iI t), .int (iI (k : Int)), .int (iI (q : Int))] σ (fun z σ' => z = bi (q ∈ way T k) ∧ σ' = σ) := by
  intro ad hok hm
  refine Ct.of (by decide) (EL.c1 rfl (EL.c1 rfl (EL.c1 rfl (EL.c1 rfl (EL.nn EL.n0))))) (fun Γ h hq hnm => ?_)
  refine v_iload_n (n' := 1) h dX2_isBelow_0 rfl rfl ?_
  refine v_istore4 (n' := 3) h dX2_isBelow_1 rfl rfl ?_
  exact m_isBelow_loop hok hm ht hq1 h hq _ _ (par_of hT hk) (by simp)
/-- of a sorted row those below k+1 -/
theorem srt_step {L : List Nat} (hs : L.Pairwise (· < ·)) (k : Nat) (p : Nat → Bool) : L.filter (fun x => decide (x < k + 1) && p x) = L.filter (fun x => decide (x < k) && p x) ++ (if k ∈ L ∧ p k = true then [k] else []) := by
  induction L with
  | nil => simp
  | cons a L ih =>
    obtain ⟨h1, h2⟩ := List.pairwise_cons.mp hs
    have ih := ih h2
    rcases Nat.lt_trichotomy a k with c | c | c
    · have e : (k ∈ a :: L ∧ p k = true) ↔ (k ∈ L ∧ p k = true) := by
        rw [List.mem_cons]
        constructor
        · rintro ⟨h | h, h3⟩
          · omega
          · exact ⟨h, h3⟩
        · rintro ⟨h, h3⟩
          exact ⟨Or.inr h, h3⟩
      have e2 : (if k ∈ a :: L ∧ p k = true then [k] else []) = (if k ∈ L ∧ p k = true then [k] else []) := by
        by_cases z : k ∈ L ∧ p k = true
        · rw [if_pos z, if_pos (e.mpr z)]
        · rw [if_neg z, if_neg (fun y => z (e.mp y))]
      rw [e2]
      have d1 : decide (a < k + 1) = true := decide_eq_true (by omega)
      have d2 : decide (a < k) = true := decide_eq_true c
      simp only [List.filter_cons, d1, d2, Bool.true_and, ih]
      split <;> simp
    · subst c
      have nil_of : ∀ m, m ≤ a + 1 → L.filter (fun x => decide (x < m) && p x) = [] := by
        intro m hm
        rw [List.filter_eq_nil_iff]
        intro x hx
        have := h1 x hx
        rw [decide_eq_false (by omega)]
        simp
      have d1 : decide (a < a + 1) = true := decide_eq_true (by omega)
      have d2 : decide (a < a) = false := decide_eq_false (by omega)
      simp only [List.filter_cons, d1, d2, Bool.true_and, Bool.false_and, nil_of _ (Nat.le_refl _), nil_of a (by omega), List.mem_cons, true_or, true_and, List.nil_append]
      simp
    · have nil_of : ∀ m, m ≤ k + 1 → (a :: L).filter (fun x => decide (x < m) && p x) = [] := by
        intro m hm
        rw [List.filter_eq_nil_iff]
        intro x hx
        rcases List.mem_cons.mp hx with e | hx
        · rw [decide_eq_false (by omega)]; simp
        · have := h1 x hx
          rw [decide_eq_false (by omega)]; simp
      rw [nil_of _ (Nat.le_refl _), nil_of k (by omega), if_neg]
      · rfl
      · rintro ⟨h, -⟩
        rcases List.mem_cons.mp h with e | h
        · omega
        · have := h1 k h; omega
theorem srt_all {L : List Nat} (hb : ∀ x ∈ L, x < 100) (p : Nat → Bool) : L.filter (fun x => decide (x < 100) && p x) = L.filter p := by
  apply List.filter_congr
  intro x hx
  rw [decide_eq_true (hb x hx), Bool.true_and]
theorem srt_none {L : List Nat} (p : Nat → Bool) : L.filter (fun x => decide (x < 0) && p x) = [] := by
  rw [List.filter_eq_nil_iff]
  intro x hx
  rw [decide_eq_false (by omega)]
  simp
/-- the keys below k that lie below q -/
def bel (T : Tr) (q k : Nat) : List Nat := (tl T).filter (fun x => decide (x < k) && decide (q ∈ way T x))
theorem bel_0 (T : Tr) (q : Nat) : bel T q 0 = [] := srt_none _
theorem bel_s {T : Tr} (hs : Srt T) (q k : Nat) : bel T q (k + 1) = bel T q k ++ (if k ∈ tl T ∧ q ∈ way T k then [k] else []) := by
  unfold bel
  rw [srt_step hs]
  simp
theorem bel_100 {T : Tr} (hs : Srt T) (hb : ∀ x ∈ tl T, x < 100) {q : Nat} (hq : q ∈ tl T) : bel T q 100 = tl (sub T q) := by
  unfold bel
  rw [srt_all hb, below_row hs hq]
theorem bel_len {T : Tr} {q k : Nat} : (bel T q k).length ≤ tz T := by
  rw [← tz_len]
  exact List.length_filter_le _ _
theorem m_size_loop {Γ : GX} {σ : MS} {ad : Nat → Nat} {t : Int} {T : Tr} {q : Nat} (hok : AdOk ad) (hm : MR σ) (ht : t = 0 ∨ t = 1) (hT : LR σ t T) (hk : q ∈ tl T) (h : Ok0 cX2_size yX2_size.cls (some .int) (rmL 2) Γ) (hq : Rt (PI ad (fun z σ' => z = (tz (sub T q) : Int) ∧ σ' = σ)) 0 0 Γ) :
    ∀ (n k : Nat), k + n = 100 → V Γ 0 0 (mH ad σ) 5 [some (.ref (ad 50)), some (.int (iI t)), some (.int (iI (q : Int))), some (.int (iI ((bel T q k).length : Int))), some (.int (iI (k : Int)))] [] := by
  intro n
  have hq1 : q < 100 := hT.2.2.2.2.1 q hk
  have hz := hT.2.2.2.2.2
  induction n with
  | zero =>
    intro k hkn
    obtain rfl : k = 100 := by omega
    have e := bel_100 hT.2.2.2.1 hT.2.2.2.2.1 hk
    rw [e, tz_len]
    refine v_iload (n' := 7) h dX2_size_5 rfl rfl ?_
    refine v_bipush (n' := 9) h dX2_size_7 rfl (by decide) ?_
    refine v_icmp_ge (n' := 12) (tgt := 58) h dX2_size_9 rfl rfl (by omega) (by omega) (fun c9 => ?_) (fun c9 => ?_)
    · refine v_iload_n (n' := 59) h dX2_size_58 rfl rfl ?_
      refine v_iret h hq dX2_size_59 (Nat.le_refl _) (Nat.le_refl _) (ret_mi hm ?_)
      exact ⟨rfl, rfl⟩
    · exact absurd (by decide) c9
  | succ n ih =>
    intro k hkn
    have e := bel_s hT.2.2.2.1 q k
    have hl := bel_len (T := T) (q := q) (k := k)
    have hth := hT.2.2.1 k (by omega)
    have ih := ih (k + 1) (by omega)
    have ek : ((k + 1 : Nat) : Int) = (k : Int) + 1 := by omega
    rw [ek] at ih
    refine v_iload (n' := 7) h dX2_size_5 rfl rfl ?_
    refine v_bipush (n' := 9) h dX2_size_7 rfl (by decide) ?_
    refine v_icmp_ge (n' := 12) (tgt := 58) h dX2_size_9 rfl rfl (by omega) (by omega) (fun c9 => ?_) (fun c9 => ?_)
    · exact absurd c9 (by omega)
    · refine v_iload_n (n' := 13) h dX2_size_12 rfl rfl ?_
      refine v_iconst (n' := 14) h dX2_size_13 rfl ?_
      refine v_icmp_eq (n' := 17) (tgt := 58) h dX2_size_14 rfl rfl (by omega) (by omega) (fun c14 => ?_) (fun c14 => ?_)
      · exact absurd c14 (by omega)
      · refine v_iload_n (n' := 18) h dX2_size_17 rfl rfl ?_
        refine v_aload_n (n' := 19) h dX2_size_18 rfl rfl ?_
        refine vm_geta (n' := 22) h 5 (by decide) q942 dX2_size_19 rfl ?_
        refine v_bipush (n' := 24) h dX2_size_22 rfl (by decide) ?_
        refine v_iload_n (n' := 25) h dX2_size_24 rfl rfl ?_
        refine v_imul (n' := 26) h dX2_size_25 rfl ?_
        refine v_iload (n' := 28) h dX2_size_26 rfl rfl ?_
        refine v_iadd (n' := 29) h dX2_size_28 rfl ?_
        refine vm_iald (n' := 30) h hok hm 5 200 (by decide) dX2_size_29 rfl (by omega) (by decide) (fun g29 => ?_)
        refine v_iconst (n' := 31) h dX2_size_30 rfl ?_
        refine v_icmp_ne (n' := 34) (tgt := 49) h dX2_size_31 rfl rfl (by omega) (by omega) (fun c31 => ?_) (fun c31 => ?_)
        · have nk : ¬ k ∈ tl T := fun z => by rw [if_pos z] at hth; exact c31 hth
          refine v_iconst (n' := 50) h dX2_size_49 rfl ?_
          refine v_iadd (n' := 51) h dX2_size_50 rfl ?_
          refine v_istore3 (n' := 52) h dX2_size_51 rfl rfl ?_
          refine v_iinc4 (n' := 55) h dX2_size_52 rfl rfl ?_
          refine v_goto (tgt := 5) h dX2_size_55 rfl ?_
          have e2 : (((bel T q (k + 1)).length : Nat) : Int) = ((bel T q k).length : Int) + 0 := by
            rw [e, List.length_append, if_neg (fun z => nk z.1)]; simp
          rw [e2] at ih
          exact ih
        · have hkT : k ∈ tl T := Classical.byContradiction (fun z => by rw [if_neg z] at hth; omega)
          refine v_aload_n (n' := 35) h dX2_size_34 rfl rfl ?_
          refine v_iload_n (n' := 36) h dX2_size_35 rfl rfl ?_
          refine v_iload (n' := 38) h dX2_size_36 rfl rfl ?_
          refine v_iload_n (n' := 39) h dX2_size_38 rfl rfl ?_
          refine vm_callI (n' := 42) h hok hm (m_isBelow _ _ ht T hT k q hkT hq1) rfl (lw_V q1188 q1190 qs55 q87 q1191) hdX2_isBelow (by decide) ⟨Nat.zero_le _, Nat.zero_le _⟩ (Nat.le_of_ble_eq_true rfl) dX2_size_39 rfl rfl (fun z39 s39 p39 m39 => ?_)
          obtain ⟨e39, f39⟩ := p39
          have e39 := e39.symm
          have f39 := f39.symm
          subst e39 f39
          refine v_bif_eq (n' := 45) (tgt := 49) h dX2_size_42 rfl rfl (fun c42 => ?_) (fun c42 => ?_)
          · refine v_iconst (n' := 50) h dX2_size_49 rfl ?_
            refine v_iadd (n' := 51) h dX2_size_50 rfl ?_
            refine v_istore3 (n' := 52) h dX2_size_51 rfl rfl ?_
            refine v_iinc4 (n' := 55) h dX2_size_52 rfl rfl ?_
            refine v_goto (tgt := 5) h dX2_size_55 rfl ?_
            have e2 : (((bel T q (k + 1)).length : Nat) : Int) = ((bel T q k).length : Int) + 0 := by
              rw [e, List.length_append, if_neg (fun z => c42 z.2)]; simp
            rw [e2] at ih
            exact ih
          · refine v_iconst (n' := 46) h dX2_size_45 rfl ?_
            refine v_goto (tgt := 50) h dX2_size_46 rfl ?_
            refine v_iadd (n' := 51) h dX2_size_50 rfl ?_
            refine v_istore3 (n' := 52) h dX2_size_51 rfl rfl ?_
            refine v_iinc4 (n' := 55) h dX2_size_52 rfl rfl ?_
            refine v_goto (tgt := 5) h dX2_size_55 rfl ?_
            have e2 : (((bel T q (k + 1)).length : Nat) : Int) = ((bel T q k).length : Int) + 1 := by
              rw [e, List.length_append, if_pos ⟨hkT, c42⟩]; simp
            rw [e2] at ih
            exact ih
theorem m_size (σ : MS) (t : Int) (ht : t = 0 ∨ t = 1) (T : Tr) (hT : LR σ t T) (q : Nat) (hk : q ∈ tl T) : MCi yX2_size cX2_size 5 (some .int) 2 [.int (iI t), .int (iI (q : Int))] σ (fun z σ' => z = (tz (sub T q) : Int) ∧ σ' = σ) := by
  intro ad hok hm
  refine Ct.of (by decide) (EL.c1 rfl (EL.c1 rfl (EL.c1 rfl (EL.nn (EL.nn EL.n0))))) (fun Γ h hq hnm => ?_)
  have lp := m_size_loop hok hm ht hT hk h hq 100 0 (by omega)
  rw [bel_0] at lp
  refine v_iconst (n' := 1) h dX2_size_0 rfl ?_
  refine v_istore3 (n' := 2) h dX2_size_1 rfl rfl ?_
  refine v_iconst (n' := 3) h dX2_size_2 rfl ?_
  refine v_istore4 (n' := 5) h dX2_size_3 rfl rfl ?_
  exact lp
theorem m_size0 (σ : MS) (t : Int) (ht : t = 0 ∨ t = 1) : MCi yX2_size cX2_size 5 (some .int) 2 [.int (iI t), .int (iI (-1))] σ (fun z σ' => z = 0 ∧ σ' = σ) := by
  intro ad hok hm
  refine Ct.of (by decide) (EL.c1 rfl (EL.c1 rfl (EL.c1 rfl (EL.nn (EL.nn EL.n0))))) (fun Γ h hq hnm => ?_)
  refine v_iconst (n' := 1) h dX2_size_0 rfl ?_
  refine v_istore3 (n' := 2) h dX2_size_1 rfl rfl ?_
  refine v_iconst (n' := 3) h dX2_size_2 rfl ?_
  refine v_istore4 (n' := 5) h dX2_size_3 rfl rfl ?_
  refine v_iload (n' := 7) h dX2_size_5 rfl rfl ?_
  refine v_bipush (n' := 9) h dX2_size_7 rfl (by decide) ?_
  refine v_icmp_ge (n' := 12) (tgt := 58) h dX2_size_9 rfl rfl (by omega) (by omega) (fun c9 => ?_) (fun c9 => ?_)
  · exact absurd c9 (by decide)
  · refine v_iload_n (n' := 13) h dX2_size_12 rfl rfl ?_
    refine v_iconst (n' := 14) h dX2_size_13 rfl ?_
    refine v_icmp_eq (n' := 17) (tgt := 58) h dX2_size_14 rfl rfl (by omega) (by omega) (fun c14 => ?_) (fun c14 => ?_)
    · refine v_iload_n (n' := 59) h dX2_size_58 rfl rfl ?_
      refine v_iret h hq dX2_size_59 (Nat.le_refl _) (Nat.le_refl _) (ret_mi hm ?_)
      exact ⟨rfl, rfl⟩
    · exact absurd rfl c14
