/-! MODEL 8: enter and leave -/
set_option maxRecDepth 100000
theorem sub_child {T : Tr} {q : Nat} {l r : Tr} (hs : Srt T) (e : sub T q = .branch q l r) : (l = .leaf () ∨ ∃ y, y ∈ tl T ∧ rk l = (y : Int) ∧ sub T y = l) ∧ (r = .leaf () ∨ ∃ y, y ∈ tl T ∧ rk r = (y : Int) ∧ sub T y = r) := by
  have hS : Srt (.branch q l r) := by rw [← e]; exact sub_srt hs
  obtain ⟨h1, h2, h3, h4⟩ := srt_br.mp hS
  constructor
  · cases l with
    | leaf u => exact Or.inl rfl
    | branch y a b =>
      have hy : y ∈ tl (sub T q) := by rw [e]; exact mem_br.mpr (Or.inl (mem_br.mpr (Or.inr (Or.inl rfl))))
      have := h3 y (mem_br.mpr (Or.inr (Or.inl rfl)))
      refine Or.inr ⟨y, sub_mem hy, rfl, ?_⟩
      rw [sub_sub hs hy, e, sub_br, if_neg (by omega), if_pos this, sub_br, if_pos rfl]
  · cases r with
    | leaf u => exact Or.inl rfl
    | branch y a b =>
      have hy : y ∈ tl (sub T q) := by rw [e]; exact mem_br.mpr (Or.inr (Or.inr (mem_br.mpr (Or.inr (Or.inl rfl)))))
      have := h4 y (mem_br.mpr (Or.inr (Or.inl rfl)))
      refine Or.inr ⟨y, sub_mem hy, rfl, ?_⟩
      rw [sub_sub hs hy, e, sub_br, if_neg (by omega), if_neg (by omega), sub_br, if_pos rfl]
theorem m_sizeT (σ : MS) (t : Int) (ht : t = 0 ∨ t = 1) (T : Tr) (hT : LR σ t T) (S : Tr) (hS : S = .leaf () ∨ ∃ y, y ∈ tl T ∧ rk S = (y : Int) ∧ sub T y = S) : MCi yX2_size cX2_size 5 (some .int) 2 [.int (iI t), .int (iI (rk S))] σ (fun z σ' => z = (tz S : Int) ∧ σ' = σ) := by
  rcases hS with rfl | ⟨y, h1, h2, h3⟩
  · exact m_size0 σ t ht
  · rw [h2]
    have := m_size σ t ht T hT y h1
    rw [h3] at this
    exact this
theorem m_isLopsided (σ : MS) (t : Int) (ht : t = 0 ∨ t = 1) (T : Tr) (hT : LR σ t T) (q : Nat) (hq1 : q ∈ tl T) (a b : Int) (ha : (if t = 0 then σ.1 14 else σ.1 16) = a) (hb : (if t = 0 then σ.1 15 else σ.1 17) = b) (hab : isRat a b) : MCi yX2_isLopsided cX2_isLopsided 4 (some .boolean) 3 [.int (iI t), .int (iI (q : Int))] σ (fun z σ' => z = bi (lop a b (sub T q)) ∧ σ' = σ) := by
  intro ad hok hm
  have hs := hT.2.2.2.1
  have hq100 := hT.2.2.2.2.1 q hq1
  obtain ⟨l, r, hsub⟩ := sub_root hs hq1
  obtain ⟨cl, cr⟩ := sub_child hs hsub
  have hRS := rep_sub hs hq1 hT.1
  rw [hsub] at hRS
  obtain ⟨q4, q2, q3, -, -⟩ := hRS
  have hz := sub_len (T := T) (k := q)
  have hz40 := hT.2.2.2.2.2
  have ab := rat_cases hab
  have ez : tz (sub T q) = tz l + tz r + 1 := by rw [hsub]; rfl
  have eo : a * (tz (sub T q) : Int) = a * ((tz l : Int) + tz r + 1) := by rw [ez]; norm_cast
  have elop : lop a b (sub T q) ↔ (b * (tz l : Int) > a * ((tz l : Int) + tz r + 1) ∨ b * (tz r : Int) > a * ((tz l : Int) + tz r + 1)) := by rw [hsub]; exact Iff.rfl
  rw [ez] at hz
  have b1 : 0 ≤ b * (tz l : Int) ∧ b * (tz l : Int) ≤ 200 := by rcases ab with ⟨rfl, rfl⟩ | ⟨rfl, rfl⟩ | ⟨rfl, rfl⟩ | ⟨rfl, rfl⟩ <;> omega
  have b2 : 0 ≤ b * (tz r : Int) ∧ b * (tz r : Int) ≤ 200 := by rcases ab with ⟨rfl, rfl⟩ | ⟨rfl, rfl⟩ | ⟨rfl, rfl⟩ | ⟨rfl, rfl⟩ <;> omega
  have b3 : 0 ≤ a * ((tz l : Int) + tz r + 1) ∧ a * ((tz l : Int) + tz r + 1) ≤ 200 := by rcases ab with ⟨rfl, rfl⟩ | ⟨rfl, rfl⟩ | ⟨rfl, rfl⟩ | ⟨rfl, rfl⟩ <;> omega
  generalize hown : a * ((tz l : Int) + tz r + 1) = own at b3 eo elop
  generalize hbl : b * (tz l : Int) = bl at b1 elop
  generalize hbr : b * (tz r : Int) = br at b2 elop
  refine Ct.of (by decide) (EL.c1 rfl (EL.c1 rfl (EL.c1 rfl (EL.nn EL.n0)))) (fun Γ h hq hnm => ?_)
  refine v_aload_n (n' := 1) h dX2_isLopsided_0 rfl rfl ?_
  refine v_iload_n (n' := 2) h dX2_isLopsided_1 rfl rfl ?_
  refine vm_callI (n' := 5) h hok hm (m_a _ _ ht) rfl (lw_V q1176 q1178 qs52 q87 q1179) hdX2_a (by decide) ⟨Nat.zero_le _, Nat.zero_le _⟩ (Nat.le_of_ble_eq_true rfl) dX2_isLopsided_2 rfl rfl (fun z2 s2 p2 m2 => ?_)
  obtain ⟨ez2, fz2⟩ := p2
  have ez2 := ez2.symm
  have fz2 := fz2.symm
  subst ez2 fz2
  refine v_aload_n (n' := 6) h dX2_isLopsided_5 rfl rfl ?_
  refine v_iload_n (n' := 7) h dX2_isLopsided_6 rfl rfl ?_
  refine v_iload_n (n' := 8) h dX2_isLopsided_7 rfl rfl ?_
  refine vm_callI (n' := 11) h hok m2 (m_size _ _ ht T hT q hq1) rfl (lw_V q1184 q1186 qs54 q87 q1187) hdX2_size (by decide) ⟨Nat.zero_le _, Nat.zero_le _⟩ (Nat.le_of_ble_eq_true rfl) dX2_isLopsided_8 rfl rfl (fun z8 s8 p8 m8 => ?_)
  obtain ⟨ez8, fz8⟩ := p8
  have ez8 := ez8.symm
  have fz8 := fz8.symm
  subst ez8 fz8
  refine v_imul (n' := 12) h dX2_isLopsided_11 rfl ?_
  rw [ha, eo]
  refine v_istore3 (n' := 13) h dX2_isLopsided_12 rfl rfl ?_
  refine v_aload_n (n' := 14) h dX2_isLopsided_13 rfl rfl ?_
  refine v_iload_n (n' := 15) h dX2_isLopsided_14 rfl rfl ?_
  refine vm_callI (n' := 18) h hok m8 (m_b _ _ ht) rfl (lw_V q1172 q1174 qs51 q87 q1175) hdX2_b (by decide) ⟨Nat.zero_le _, Nat.zero_le _⟩ (Nat.le_of_ble_eq_true rfl) dX2_isLopsided_15 rfl rfl (fun z15 s15 p15 m15 => ?_)
  obtain ⟨ez15, fz15⟩ := p15
  have ez15 := ez15.symm
  have fz15 := fz15.symm
  subst ez15 fz15
  refine v_aload_n (n' := 19) h dX2_isLopsided_18 rfl rfl ?_
  refine v_iload_n (n' := 20) h dX2_isLopsided_19 rfl rfl ?_
  refine v_aload_n (n' := 21) h dX2_isLopsided_20 rfl rfl ?_
  refine vm_geta (n' := 24) h 2 (by decide) q939 dX2_isLopsided_21 rfl ?_
  refine v_bipush (n' := 26) h dX2_isLopsided_24 rfl (by decide) ?_
  refine v_iload_n (n' := 27) h dX2_isLopsided_26 rfl rfl ?_
  refine v_imul (n' := 28) h dX2_isLopsided_27 rfl ?_
  refine v_iload_n (n' := 29) h dX2_isLopsided_28 rfl rfl ?_
  refine v_iadd (n' := 30) h dX2_isLopsided_29 rfl ?_
  refine vm_iald (n' := 31) h hok m15 2 200 (by decide) dX2_isLopsided_30 rfl (by omega) (by decide) (fun g30 => ?_)
  rw [q2]
  refine vm_callI (n' := 34) h hok m15 (m_sizeT _ _ ht T hT l cl) rfl (lw_V q1184 q1186 qs54 q87 q1187) hdX2_size (by decide) ⟨Nat.zero_le _, Nat.zero_le _⟩ (Nat.le_of_ble_eq_true rfl) dX2_isLopsided_31 rfl rfl (fun z31 s31 p31 m31 => ?_)
  obtain ⟨ez31, fz31⟩ := p31
  have ez31 := ez31.symm
  have fz31 := fz31.symm
  subst ez31 fz31
  refine v_imul (n' := 35) h dX2_isLopsided_34 rfl ?_
  rw [hb, hbl]
  refine v_iload_n (n' := 36) h dX2_isLopsided_35 rfl rfl ?_
  refine v_icmp_gt (n' := 39) (tgt := 65) h dX2_isLopsided_36 rfl rfl (by omega) (by omega) (fun c36 => ?_) (fun c36 => ?_)
  · refine v_iconst (n' := 66) h dX2_isLopsided_65 rfl ?_
    refine v_goto (tgt := 70) h dX2_isLopsided_66 rfl ?_
    refine v_zret h hq dX2_isLopsided_70 (by decide) (Nat.le_refl _) (Nat.le_refl _) (ret_mi m31 ?_)
    exact ⟨(bi_t (elop.mpr (Or.inl (by omega)))).symm, rfl⟩
  · refine v_aload_n (n' := 40) h dX2_isLopsided_39 rfl rfl ?_
    refine v_iload_n (n' := 41) h dX2_isLopsided_40 rfl rfl ?_
    refine vm_callI (n' := 44) h hok m31 (m_b _ _ ht) rfl (lw_V q1172 q1174 qs51 q87 q1175) hdX2_b (by decide) ⟨Nat.zero_le _, Nat.zero_le _⟩ (Nat.le_of_ble_eq_true rfl) dX2_isLopsided_41 rfl rfl (fun z41 s41 p41 m41 => ?_)
    obtain ⟨ez41, fz41⟩ := p41
    have ez41 := ez41.symm
    have fz41 := fz41.symm
    subst ez41 fz41
    refine v_aload_n (n' := 45) h dX2_isLopsided_44 rfl rfl ?_
    refine v_iload_n (n' := 46) h dX2_isLopsided_45 rfl rfl ?_
    refine v_aload_n (n' := 47) h dX2_isLopsided_46 rfl rfl ?_
    refine vm_geta (n' := 50) h 3 (by decide) q940 dX2_isLopsided_47 rfl ?_
    refine v_bipush (n' := 52) h dX2_isLopsided_50 rfl (by decide) ?_
    refine v_iload_n (n' := 53) h dX2_isLopsided_52 rfl rfl ?_
    refine v_imul (n' := 54) h dX2_isLopsided_53 rfl ?_
    refine v_iload_n (n' := 55) h dX2_isLopsided_54 rfl rfl ?_
    refine v_iadd (n' := 56) h dX2_isLopsided_55 rfl ?_
    refine vm_iald (n' := 57) h hok m41 3 200 (by decide) dX2_isLopsided_56 rfl (by omega) (by decide) (fun g56 => ?_)
    rw [q3]
    refine vm_callI (n' := 60) h hok m41 (m_sizeT _ _ ht T hT r cr) rfl (lw_V q1184 q1186 qs54 q87 q1187) hdX2_size (by decide) ⟨Nat.zero_le _, Nat.zero_le _⟩ (Nat.le_of_ble_eq_true rfl) dX2_isLopsided_57 rfl rfl (fun z57 s57 p57 m57 => ?_)
    obtain ⟨ez57, fz57⟩ := p57
    have ez57 := ez57.symm
    have fz57 := fz57.symm
    subst ez57 fz57
    refine v_imul (n' := 61) h dX2_isLopsided_60 rfl ?_
    rw [hb, hbr]
    refine v_iload_n (n' := 62) h dX2_isLopsided_61 rfl rfl ?_
    refine v_icmp_le (n' := 65) (tgt := 69) h dX2_isLopsided_62 rfl rfl (by omega) (by omega) (fun c62 => ?_) (fun c62 => ?_)
    · refine v_iconst (n' := 70) h dX2_isLopsided_69 rfl ?_
      refine v_zret h hq dX2_isLopsided_70 (by decide) (Nat.le_refl _) (Nat.le_refl _) (ret_mi m57 ?_)
      exact ⟨(bi_f (fun z => by have := elop.mp z; omega)).symm, rfl⟩
    · refine v_iconst (n' := 66) h dX2_isLopsided_65 rfl ?_
      refine v_goto (tgt := 70) h dX2_isLopsided_66 rfl ?_
      refine v_zret h hq dX2_isLopsided_70 (by decide) (Nat.le_refl _) (Nat.le_refl _) (ret_mi m57 ?_)
      exact ⟨(bi_t (elop.mpr (Or.inr (by omega)))).symm, rfl⟩
/-! what entering does, as numbers and trees -/
noncomputable def scp (a b : Int) (T : Tr) : List Nat → Option Nat
  | [] => none
  | x :: c => by
    classical
    exact if lop a b (sub T x) then some x else scp a b T c
theorem scp_cons {a b : Int} {T : Tr} {x : Nat} {c : List Nat} : (lop a b (sub T x) → scp a b T (x :: c) = some x) ∧ (¬ lop a b (sub T x) → scp a b T (x :: c) = scp a b T c) := by
  constructor
  · intro h; unfold scp; rw [if_pos h]
  · intro h; conv => lhs; unfold scp
    rw [if_neg h]
theorem scp_mem {a b : Int} {T : Tr} {c : List Nat} {x : Nat} (h : scp a b T c = some x) : x ∈ c := by
  induction c with
  | nil => cases h
  | cons y c ih =>
    by_cases z : lop a b (sub T y)
    · rw [scp_cons.1 z] at h
      cases h
      exact List.mem_cons_self
    · rw [scp_cons.2 z] at h
      exact List.mem_cons_of_mem _ (ih h)
/-- the tree behind a put, and how much was built -/
noncomputable def entR (a b : Int) (T : Tr) (k : Nat) : Tr × Nat :=
  let T1 := ins T k
  if (dep T1 k : Int) ≤ (lim a b ((tz T : Int) + 1) : Int) then (T1, 0) else match scp a b T1 (way T1 k).reverse with
    | none => (T1, 0)
    | some x => (gr T1 x (flat (sub T1 x)), tz (sub T1 x))
abbrev PN : Type := Int × Int
def payN (p : PN) (so : Int) : PN := (p.1 + so, mn (p.1 + so) p.2)
noncomputable def entM (fee a b : Int) (T : Tr) (k : Nat) (p : PN) : PN :=
  let p1 := payN p (fee * ((dep (ins T k) k : Int) + 1))
  if (entR a b T k).2 = 0 then p1 else payN p1 (0 - ((entR a b T k).2 : Int))
def bn (n : Nat) : Int := if n = 0 then 0 else 1
def EntP (t fee a b : Int) (T : Tr) (k : Nat) (σ σ' : MS) : Prop := LR σ' t (entR a b T k).1 ∧ σ'.1 9 = ((entR a b T k).2 : Int) ∧ σ'.2 7 t = (tz T : Int) + 1 ∧ σ'.2 8 t = mx ((tz T : Int) + 1) (σ.2 8 t) ∧ σ'.2 10 t = σ.2 10 t + bn (entR a b T k).2 ∧ σ'.2 11 t = σ.2 11 t + ((entR a b T k).2 : Int) ∧ (t = 0 → (σ'.1 19, σ'.1 20) = entM fee a b T k (σ.1 19, σ.1 20)) ∧ Fr t σ σ'
/-- what entering and leaving ask of the numbers -/
def NumOk (σ : MS) (t a b : Int) (T : Tr) : Prop := σ.2 7 t = (tz T : Int) ∧ (0 ≤ σ.2 8 t ∧ σ.2 8 t ≤ 40) ∧ (0 ≤ σ.2 10 t ∧ σ.2 10 t ≤ 1000000) ∧ (0 ≤ σ.2 11 t ∧ σ.2 11 t ≤ 1000000) ∧ (-100000000 ≤ σ.1 19 ∧ σ.1 19 ≤ 100000000) ∧ (0 ≤ σ.1 18 ∧ σ.1 18 ≤ 9) ∧ (if t = 0 then σ.1 14 else σ.1 16) = a ∧ (if t = 0 then σ.1 15 else σ.1 17) = b ∧ isRat a b
theorem m_enter_loop {Γ : GX} {σ : MS} {ad : Nat → Nat} {t a b : Int} {T : Tr} {k dv : Int} (hok : AdOk ad) (hm : MR σ) (ht : t = 0 ∨ t = 1) (hT : LR σ t T) (ha : (if t = 0 then σ.1 14 else σ.1 16) = a) (hb : (if t = 0 then σ.1 15 else σ.1 17) = b) (hab : isRat a b) (h : Ok0 cX2_enter yX2_enter.cls none (rmL 4) Γ) :
    ∀ (c : List Nat) (v : Int), Par σ t c v → (∀ x ∈ c, x ∈ tl T) → (V Γ 0 0 (mH ad σ) 82 [some (.ref (ad 50)), some (.int (iI t)), some (.int (iI k)), some (.int (iI dv)), some (.int (iI (match scp a b T c with | none => -1 | some x => (x : Int))))] []) → V Γ 0 0 (mH ad σ) 49 [some (.ref (ad 50)), some (.int (iI t)), some (.int (iI k)), some (.int (iI dv)), some (.int (iI v))] [] := by
  intro c
  induction c with
  | nil =>
    intro v hP _ kk
    have hP : v = -1 := hP
    subst hP
    refine v_iload (n' := 51) h dX2_enter_49 rfl rfl ?_
    refine v_iconst (n' := 52) h dX2_enter_51 rfl ?_
    refine v_icmp_eq (n' := 55) (tgt := 82) h dX2_enter_52 rfl rfl (by omega) (by omega) (fun c52 => ?_) (fun c52 => ?_)
    · exact kk
    · exact absurd rfl c52
  | cons y c ih =>
    intro v hP hmem kk
    obtain ⟨h1, h2, h3⟩ := hP
    subst h1
    have hy := hmem y List.mem_cons_self
    refine v_iload (n' := 51) h dX2_enter_49 rfl rfl ?_
    refine v_iconst (n' := 52) h dX2_enter_51 rfl ?_
    refine v_icmp_eq (n' := 55) (tgt := 82) h dX2_enter_52 rfl rfl (by omega) (by omega) (fun c52 => ?_) (fun c52 => ?_)
    · exact absurd c52 (by omega)
    · refine v_aload_n (n' := 56) h dX2_enter_55 rfl rfl ?_
      refine v_iload_n (n' := 57) h dX2_enter_56 rfl rfl ?_
      refine v_iload (n' := 59) h dX2_enter_57 rfl rfl ?_
      refine vm_callI (n' := 62) h hok hm (m_isLopsided _ _ ht T hT y hy a b ha hb hab) rfl (lw_V q1180 q1182 qs53 q87 q1183) hdX2_isLopsided (by decide) ⟨Nat.zero_le _, Nat.zero_le _⟩ (Nat.le_of_ble_eq_true rfl) dX2_enter_59 rfl rfl (fun z59 s59 p59 m59 => ?_)
      obtain ⟨ez59, fz59⟩ := p59
      have ez59 := ez59.symm
      have fz59 := fz59.symm
      subst ez59 fz59
      refine v_bif_ne (n' := 65) (tgt := 82) h dX2_enter_62 rfl rfl (fun c62 => ?_) (fun c62 => ?_)
      · rw [scp_cons.1 c62] at kk
        exact kk
      · refine v_aload_n (n' := 66) h dX2_enter_65 rfl rfl ?_
        refine vm_geta (n' := 69) h 4 (by decide) q941 dX2_enter_66 rfl ?_
        refine v_bipush (n' := 71) h dX2_enter_69 rfl (by decide) ?_
        refine v_iload_n (n' := 72) h dX2_enter_71 rfl rfl ?_
        refine v_imul (n' := 73) h dX2_enter_72 rfl ?_
        refine v_iload (n' := 75) h dX2_enter_73 rfl rfl ?_
        refine v_iadd (n' := 76) h dX2_enter_75 rfl ?_
        refine vm_iald (n' := 77) h hok m59 4 200 (by decide) dX2_enter_76 rfl (by omega) (by decide) (fun g76 => ?_)
        refine v_istore4 (n' := 79) h dX2_enter_77 rfl rfl ?_
        refine v_goto (tgt := 49) h dX2_enter_79 rfl ?_
        rw [scp_cons.2 c62] at kk
        exact ih _ h3 (fun x hx => hmem x (List.mem_cons_of_mem _ hx)) kk
theorem dep_ins {T : Tr} {k : Nat} (h : k ∉ tl T) : dep (ins T k) k = (way T k).length := by
  unfold dep
  rw [ins_way h]
  simp
theorem entR_a {a b : Int} {T : Tr} {k : Nat} (h : (dep (ins T k) k : Int) ≤ (lim a b ((tz T : Int) + 1) : Int)) : entR a b T k = (ins T k, 0) := by
  unfold entR
  dsimp only
  rw [if_pos h]
theorem entR_b {a b : Int} {T : Tr} {k : Nat} (h : ¬ (dep (ins T k) k : Int) ≤ (lim a b ((tz T : Int) + 1) : Int)) (h2 : scp a b (ins T k) (way (ins T k) k).reverse = none) : entR a b T k = (ins T k, 0) := by
  unfold entR
  dsimp only
  rw [if_neg h, h2]
theorem entR_c {a b : Int} {T : Tr} {k x : Nat} (h : ¬ (dep (ins T k) k : Int) ≤ (lim a b ((tz T : Int) + 1) : Int)) (h2 : scp a b (ins T k) (way (ins T k) k).reverse = some x) : entR a b T k = (gr (ins T k) x (flat (sub (ins T k) x)), tz (sub (ins T k) x)) := by
  unfold entR
  dsimp only
  rw [if_neg h, h2]
theorem m_enter (σ : MS) (t : Int) (ht : t = 0 ∨ t = 1) (T : Tr) (hT : LR σ t T) (k : Nat) (hk : k ∉ tl T) (hk1 : k < 100) (hz : tz T < 40) (a b : Int) (hN : NumOk σ t a b T) : MCv yX2_enter cX2_enter 5 none 4 [.int (iI t), .int (iI (k : Int))] σ (fun σ' => EntP t (σ.1 18) a b T k σ σ') := by
  intro ad hok hm
  obtain ⟨n7, n8, n10, n11, n19, n18, na, nb, nab⟩ := hN
  have hkI : k ∈ tl (ins T k) := ins_mem.mpr (Or.inl rfl)
  have hdl := dep_le (T := ins T k) (k := k)
  rw [ins_tz] at hdl
  have hfee : 0 ≤ σ.1 18 * ((dep (ins T k) k : Int) + 1) ∧ σ.1 18 * ((dep (ins T k) k : Int) + 1) ≤ 400 := by
    have : σ.1 18 = 0 ∨ σ.1 18 = 1 ∨ σ.1 18 = 2 ∨ σ.1 18 = 3 ∨ σ.1 18 = 4 ∨ σ.1 18 = 5 ∨ σ.1 18 = 6 ∨ σ.1 18 = 7 ∨ σ.1 18 = 8 ∨ σ.1 18 = 9 := by omega
    rcases this with e | e | e | e | e | e | e | e | e | e <;> rw [e] <;> omega
  refine Ct.of (by decide) (EL.c1 rfl (EL.c1 rfl (EL.c1 rfl (EL.nn (EL.nn EL.n0))))) (fun Γ h hq hnm => ?_)
  -- behind the pay
  have go : ∀ (σ1 : MS) (dv : Int), MR (payS (setI σ1 9 0) t (σ.1 18 * ((dep (ins T k) k : Int) + 1))) → InsP t T k σ σ1 → dv = (dep (ins T k) k : Int) → V Γ 0 0 (mH ad (payS (setI σ1 9 0) t (σ.1 18 * ((dep (ins T k) k : Int) + 1)))) 31 [some (.ref (ad 50)), some (.int (iI t)), some (.int (iI (k : Int))), some (.int (iI dv)), none] [] := by
    intro σ1 dv m2 hI hdv
    obtain ⟨i1, i7, i8, i10, i11, iI1, iF⟩ := hI
    generalize hfe : σ.1 18 * ((dep (ins T k) k : Int) + 1) = fe at hfee m2
    have L2 : LR (payS (setI σ1 9 0) t fe) t (ins T k) := i1.cg (fun f i _ _ => by rw [payS_2]; rfl)
    have f2 : ∀ f, f ≠ 9 → f ≠ 19 → f ≠ 20 → (payS (setI σ1 9 0) t fe).1 f = σ.1 f := fun f a1 a2 a3 => by rw [payS_9 ⟨a2, a3⟩, setI_1n a1, iI1]
    have f9 : (payS (setI σ1 9 0) t fe).1 9 = 0 := by rw [payS_9 (by decide), setI_1s]
    have a2 : ∀ f i, (payS (setI σ1 9 0) t fe).2 f i = σ1.2 f i := fun f i => by rw [payS_2]; rfl
    have F2 : Fr t σ (payS (setI σ1 9 0) t fe) := (iF.trans Fr.s9).trans Fr.pay
    have mo : t = 0 → ((payS (setI σ1 9 0) t fe).1 19, (payS (setI σ1 9 0) t fe).1 20) = payN (σ.1 19, σ.1 20) fe := by
      intro t0
      subst t0
      obtain ⟨p1, p2⟩ := payS_19 (σ := setI σ1 9 0) (so := fe)
      rw [p1, p2, setI_1n (by decide), setI_1n (by decide), iI1]
      rfl
    have mo19 : -1000000000 ≤ (payS (setI σ1 9 0) t fe).1 19 ∧ (payS (setI σ1 9 0) t fe).1 19 ≤ 1000000000 := by
      rcases ht with t0 | t1
      · have := congrArg Prod.fst (mo t0)
        simp only [payN] at this
        omega
      · rw [F2.1 19 (by decide) (Or.inr (by omega))]; omega
    have na2 : (if t = 0 then (payS (setI σ1 9 0) t fe).1 14 else (payS (setI σ1 9 0) t fe).1 16) = a := by rw [f2 14 (by decide) (by decide) (by decide), f2 16 (by decide) (by decide) (by decide)]; exact na
    have nb2 : (if t = 0 then (payS (setI σ1 9 0) t fe).1 15 else (payS (setI σ1 9 0) t fe).1 17) = b := by rw [f2 15 (by decide) (by decide) (by decide), f2 17 (by decide) (by decide) (by decide)]; exact nb
    have e7 : (payS (setI σ1 9 0) t fe).2 7 t = (tz T : Int) + 1 := by rw [a2, i7]
    have hw : ∀ x ∈ (way (ins T k) k).reverse, x ∈ tl (ins T k) := fun x hx => way_mem (List.mem_reverse.mp hx)
    have fin0 : entR a b T k = (ins T k, 0) → EntP t (σ.1 18) a b T k σ (payS (setI σ1 9 0) t fe) := by
      intro e
      unfold EntP entM
      rw [e]
      refine ⟨L2, f9, e7, by rw [a2, i8], by rw [a2, i10]; simp [bn], by rw [a2, i11]; simp, fun t0 => ?_, F2⟩
      rw [mo t0, if_pos rfl, hfe]
    generalize payS (setI σ1 9 0) t fe = σ2 at *
    have hlr := limF_le 17 0 a b ((tz T : Int) + 1)
    have hlr : lim a b ((tz T : Int) + 1) ≤ 17 := hlr
    refine v_iload_n (n' := 32) h dX2_enter_31 rfl rfl ?_
    refine v_aload_n (n' := 33) h dX2_enter_32 rfl rfl ?_
    refine v_iload_n (n' := 34) h dX2_enter_33 rfl rfl ?_
    refine v_aload_n (n' := 35) h dX2_enter_34 rfl rfl ?_
    refine vm_geta (n' := 38) h 7 (by decide) q944 dX2_enter_35 rfl ?_
    refine v_iload_n (n' := 39) h dX2_enter_38 rfl rfl ?_
    refine vm_iald (n' := 40) h hok m2 7 2 (by decide) dX2_enter_39 rfl (by omega) (by decide) (fun g39 => ?_)
    rw [e7] at g39 ⊢
    refine vm_callI (n' := 43) h hok m2 (m_limit _ _ _ a b ht na2 nb2 nab (by omega)) rfl (lw_V q1168 q1170 qs50 q87 q1171) hdX2_limit (by decide) ⟨Nat.zero_le _, Nat.zero_le _⟩ (Nat.le_of_ble_eq_true rfl) dX2_enter_40 rfl rfl (fun z40 s40 p40 m40 => ?_)
    obtain ⟨ez40, fz40⟩ := p40
    have ez40 := ez40.symm
    have fz40 := fz40.symm
    subst ez40 fz40
    refine v_icmp_le (n' := 46) (tgt := 95) h dX2_enter_43 rfl rfl (by omega) (by omega) (fun c43 => ?_) (fun c43 => ?_)
    · refine v_vret h hq dX2_enter_95 (Nat.le_refl _) (Nat.le_refl _) (ret_mv m40 ?_)
      exact fin0 (entR_a (by omega))
    · refine v_iload_n (n' := 47) h dX2_enter_46 rfl rfl ?_
      refine v_istore4 (n' := 49) h dX2_enter_47 rfl rfl ?_
      refine m_enter_loop hok m2 ht L2 na2 nb2 nab h _ _ (par_of L2 hkI) hw ?_
      cases hsc : scp a b (ins T k) (way (ins T k) k).reverse with
      | none =>
        dsimp only
        refine v_iload (n' := 84) h dX2_enter_82 rfl rfl ?_
        refine v_iconst (n' := 85) h dX2_enter_84 rfl ?_
        refine v_icmp_eq (n' := 88) (tgt := 95) h dX2_enter_85 rfl rfl (by omega) (by omega) (fun c85 => ?_) (fun c85 => ?_)
        · refine v_vret h hq dX2_enter_95 (Nat.le_refl _) (Nat.le_refl _) (ret_mv m2 ?_)
          exact fin0 (entR_b (by omega) hsc)
        · exact absurd rfl c85
      | some x =>
        have hx : x ∈ tl (ins T k) := hw x (scp_mem hsc)
        have hx100 := L2.2.2.2.2.1 x hx
        have hxz := sub_len (T := ins T k) (k := x)
        rw [ins_tz] at hxz
        obtain ⟨xl, xr, hxs⟩ := sub_root L2.2.2.2.1 hx
        have hx1 : tz (sub (ins T k) x) ≠ 0 := by rw [hxs]; simp [tz]
        have e := entR_c (a := a) (b := b) (T := T) (k := k) (by omega) hsc
        dsimp only
        refine v_iload (n' := 84) h dX2_enter_82 rfl rfl ?_
        refine v_iconst (n' := 85) h dX2_enter_84 rfl ?_
        refine v_icmp_eq (n' := 88) (tgt := 95) h dX2_enter_85 rfl rfl (by omega) (by omega) (fun c85 => ?_) (fun c85 => ?_)
        · exact absurd c85 (by omega)
        · refine v_aload_n (n' := 89) h dX2_enter_88 rfl rfl ?_
          refine v_iload_n (n' := 90) h dX2_enter_89 rfl rfl ?_
          refine v_iload (n' := 92) h dX2_enter_90 rfl rfl ?_
          refine vm_callV (n' := 95) h hok m2 (m_build _ _ ht _ L2 x hx (by rw [a2, i10]; exact n10) (by rw [a2, i11]; exact n11) mo19) rfl (lw_V q1192 q1194 qs56 q87 q1195) hdX2_build (by decide) ⟨Nat.zero_le _, Nat.zero_le _⟩ (Nat.le_of_ble_eq_true rfl) dX2_enter_92 rfl rfl (fun s92 p92 m92 => ?_)
          refine v_vret h hq dX2_enter_95 (Nat.le_refl _) (Nat.le_refl _) (ret_mv m92 ?_)
          obtain ⟨b1, b9, b7, b8, b10, b11, bm, bF⟩ := p92
          unfold EntP entM
          rw [e]
          refine ⟨b1, b9, by rw [b7, e7], by rw [b8, a2, i8], by rw [b10, a2, i10]; simp [bn, hx1], by rw [b11, a2, i11], fun t0 => ?_, F2.trans bF⟩
          obtain ⟨m1, m2'⟩ := bm t0
          have mo0 := mo t0
          simp only [Prod.mk.injEq, payN] at mo0
          rw [if_neg hx1, m1, m2', mo0.1, mo0.2, hfe]
          simp only [payN]
          rw [show σ.1 19 + fe + (0 - (tz (sub (ins T k) x) : Int)) = σ.1 19 + fe - (tz (sub (ins T k) x) : Int) by omega]
  refine v_aload_n (n' := 1) h dX2_enter_0 rfl rfl ?_
  refine v_iload_n (n' := 2) h dX2_enter_1 rfl rfl ?_
  refine v_iload_n (n' := 3) h dX2_enter_2 rfl rfl ?_
  refine vm_callV (n' := 6) h hok hm (m_insert _ _ ht T hT k hk hk1 hz n7 n8) rfl (lw_V q1152 q1154 qs46 q87 q1155) hdX2_insert (by decide) ⟨Nat.zero_le _, Nat.zero_le _⟩ (Nat.le_of_ble_eq_true rfl) dX2_enter_3 rfl rfl (fun s3 p3 m3 => ?_)
  have L1 : LR (setI s3 9 0) t (ins T k) := p3.1.cg (fun f i _ _ => rfl)
  have e18 : (setI s3 9 0).1 18 = σ.1 18 := by rw [setI_1n (by decide), p3.2.2.2.2.2.1]
  have e19 : (setI s3 9 0).1 19 = σ.1 19 := by rw [setI_1n (by decide), p3.2.2.2.2.2.1]
  refine v_aload_n (n' := 7) h dX2_enter_6 rfl rfl ?_
  refine v_iconst (n' := 8) h dX2_enter_7 rfl ?_
  refine vm_puti (n' := 11) h m3 9 (by decide) q946 dX2_enter_8 rfl (by omega) (fun m8 => ?_)
  refine v_aload_n (n' := 12) h dX2_enter_11 rfl rfl ?_
  refine v_iload_n (n' := 13) h dX2_enter_12 rfl rfl ?_
  refine v_iload_n (n' := 14) h dX2_enter_13 rfl rfl ?_
  refine vm_callI (n' := 17) h hok m8 (m_depth _ _ ht _ L1 k hkI) rfl (lw_V q1160 q1162 qs48 q87 q1163) hdX2_depth (by decide) ⟨Nat.zero_le _, Nat.zero_le _⟩ (Nat.le_of_ble_eq_true rfl) dX2_enter_14 rfl rfl (fun z14 s14 p14 m14 => ?_)
  obtain ⟨ez14, fz14⟩ := p14
  have ez14 := ez14.symm
  have fz14 := fz14.symm
  subst ez14 fz14
  refine v_istore3 (n' := 18) h dX2_enter_17 rfl rfl ?_
  refine v_aload_n (n' := 19) h dX2_enter_18 rfl rfl ?_
  refine v_iload_n (n' := 20) h dX2_enter_19 rfl rfl ?_
  refine v_aload_n (n' := 21) h dX2_enter_20 rfl rfl ?_
  refine vm_geti (n' := 24) h m14 18 (by decide) q955 dX2_enter_21 rfl (fun g21 => ?_)
  rw [e18] at g21 ⊢
  refine v_iload_n (n' := 25) h dX2_enter_24 rfl rfl ?_
  refine v_iconst (n' := 26) h dX2_enter_25 rfl ?_
  refine v_iadd (n' := 27) h dX2_enter_26 rfl ?_
  refine v_imul (n' := 28) h dX2_enter_27 rfl ?_
  refine vm_callV (n' := 31) h hok m14 (m_pay _ _ _ ht (by omega) (by rw [e19]; omega)) rfl (lw_V q1164 q1166 qs49 q87 q1167) hdX2_pay (by decide) ⟨Nat.zero_le _, Nat.zero_le _⟩ (Nat.le_of_ble_eq_true rfl) dX2_enter_28 rfl rfl (fun s28 p28 m28 => ?_)
  have p28 := p28.symm
  subst p28
  exact go s3 _ m28 p3 rfl
/-! leaving -/
noncomputable def levC (a b most : Int) (T : Tr) : Prop := 0 < (tz T : Int) - 1 ∧ b * ((tz T : Int) - 1) < a * most
noncomputable def levR (a b most : Int) (T : Tr) (k : Nat) : Tr × Nat × Int := by
  classical
  exact if levC a b most T then (flat (del T k), tz T - 1, (tz T : Int) - 1) else (del T k, 0, if tz T = 1 then 0 else most)
noncomputable def levM (fee a b most : Int) (T : Tr) (k : Nat) (p : PN) : PN :=
  let p1 := payN p (fee * ((dep T k : Int) + 1))
  if (levR a b most T k).2.1 = 0 then p1 else payN p1 (0 - ((levR a b most T k).2.1 : Int))
def LevP (t fee a b : Int) (T : Tr) (k : Nat) (σ σ' : MS) : Prop := LR σ' t (levR a b (σ.2 8 t) T k).1 ∧ σ'.1 9 = ((levR a b (σ.2 8 t) T k).2.1 : Int) ∧ σ'.2 7 t = (tz T : Int) - 1 ∧ σ'.2 8 t = (levR a b (σ.2 8 t) T k).2.2 ∧ σ'.2 10 t = σ.2 10 t + bn (levR a b (σ.2 8 t) T k).2.1 ∧ σ'.2 11 t = σ.2 11 t + ((levR a b (σ.2 8 t) T k).2.1 : Int) ∧ (t = 0 → (σ'.1 19, σ'.1 20) = levM fee a b (σ.2 8 t) T k (σ.1 19, σ.1 20)) ∧ Fr t σ σ'
theorem levR_a {a b most : Int} {T : Tr} {k : Nat} (h : levC a b most T) : levR a b most T k = (flat (del T k), tz T - 1, (tz T : Int) - 1) := by
  unfold levR
  exact if_pos h
theorem levR_b {a b most : Int} {T : Tr} {k : Nat} (h : ¬ levC a b most T) : levR a b most T k = (del T k, 0, if tz T = 1 then 0 else most) := by
  unfold levR
  exact if_neg h
theorem gr_root {T S : Tr} {x : Nat} (h : rk T = (x : Int)) : gr T x S = S ∧ sub T x = T := by
  cases T with
  | leaf u => simp only [rk] at h; omega
  | branch y l r =>
    have : x = y := by simp only [rk] at h; omega
    rw [gr_br, sub_br, if_pos this, if_pos this]
    exact ⟨rfl, rfl⟩
theorem m_leave (σ : MS) (t : Int) (ht : t = 0 ∨ t = 1) (T : Tr) (hT : LR σ t T) (k : Nat) (hk : k ∈ tl T) (a b : Int) (hN : NumOk σ t a b T) : MCv yX2_leave cX2_leave 3 none 5 [.int (iI t), .int (iI (k : Int))] σ (fun σ' => LevP t (σ.1 18) a b T k σ σ') := by
  intro ad hok hm
  obtain ⟨n7, n8, n10, n11, n19, n18, na, nb, nab⟩ := hN
  have hdl := dep_le (T := T) (k := k)
  have hz := hT.2.2.2.2.2
  have hs := hT.2.2.2.1
  have hk100 := hT.2.2.2.2.1 k hk
  have hdz := del_tz hs hk
  have ab := rat_cases nab
  have hfee : 0 ≤ σ.1 18 * ((dep T k : Int) + 1) ∧ σ.1 18 * ((dep T k : Int) + 1) ≤ 400 := by
    have : σ.1 18 = 0 ∨ σ.1 18 = 1 ∨ σ.1 18 = 2 ∨ σ.1 18 = 3 ∨ σ.1 18 = 4 ∨ σ.1 18 = 5 ∨ σ.1 18 = 6 ∨ σ.1 18 = 7 ∨ σ.1 18 = 8 ∨ σ.1 18 = 9 := by omega
    rcases this with e | e | e | e | e | e | e | e | e | e <;> rw [e] <;> omega
  refine Ct.of (by decide) (EL.c1 rfl (EL.c1 rfl (EL.c1 rfl EL.n0))) (fun Γ h hq hnm => ?_)
  generalize hfe : σ.1 18 * ((dep T k : Int) + 1) = fe at hfee
  -- behind the removal
  have go : ∀ σ2 : MS, MR (setI σ2 9 0) → RemP t T k (payS σ t fe) σ2 → V Γ 0 0 (mH ad (setI σ2 9 0)) 29 [some (.ref (ad 50)), some (.int (iI t)), some (.int (iI (k : Int)))] [] := by
    intro σ2 m2 hI
    obtain ⟨i1, i7, i8, i10, i11, iI1, iF⟩ := hI
    have L2 : LR (setI σ2 9 0) t (del T k) := i1.cg (fun f i _ _ => rfl)
    have f2 : ∀ f, f ≠ 9 → f ≠ 19 → f ≠ 20 → (setI σ2 9 0).1 f = σ.1 f := fun f a1 a2 a3 => by rw [setI_1n a1, iI1, payS_9 ⟨a2, a3⟩]
    have f9 : (setI σ2 9 0).1 9 = 0 := setI_1s
    have a2 : ∀ f i, (setI σ2 9 0).2 f i = σ2.2 f i := fun f i => rfl
    have F2 : Fr t σ (setI σ2 9 0) := (Fr.pay.trans iF).trans Fr.s9
    have mo : t = 0 → ((setI σ2 9 0).1 19, (setI σ2 9 0).1 20) = payN (σ.1 19, σ.1 20) fe := by
      intro t0
      subst t0
      obtain ⟨p1, p2⟩ := payS_19 (σ := σ) (so := fe)
      rw [setI_1n (by decide), setI_1n (by decide), iI1, p1, p2]
      rfl
    have mo19 : -1000000000 ≤ (setI σ2 9 0).1 19 ∧ (setI σ2 9 0).1 19 ≤ 1000000000 := by
      rcases ht with t0 | t1
      · have := congrArg Prod.fst (mo t0)
        simp only [payN] at this
        omega
      · rw [F2.1 19 (by decide) (Or.inr (by omega))]; omega
    have na2 : (if t = 0 then (setI σ2 9 0).1 14 else (setI σ2 9 0).1 16) = a := by rw [f2 14 (by decide) (by decide) (by decide), f2 16 (by decide) (by decide) (by decide)]; exact na
    have nb2 : (if t = 0 then (setI σ2 9 0).1 15 else (setI σ2 9 0).1 17) = b := by rw [f2 15 (by decide) (by decide) (by decide), f2 17 (by decide) (by decide) (by decide)]; exact nb
    rw [payS_2] at i8 i10 i11
    have e7 : (setI σ2 9 0).2 7 t = (tz T : Int) - 1 := i7
    have e8 : (setI σ2 9 0).2 8 t = σ.2 8 t := i8
    have e10 : (setI σ2 9 0).2 10 t = σ.2 10 t := i10
    have e11 : (setI σ2 9 0).2 11 t = σ.2 11 t := i11
    have e6 : (setI σ2 9 0).2 6 t = rk (del T k) := L2.2.1
    have br1 : -2000 ≤ b * ((tz T : Int) - 1) ∧ b * ((tz T : Int) - 1) ≤ 2000 := by rcases ab with ⟨rfl, rfl⟩ | ⟨rfl, rfl⟩ | ⟨rfl, rfl⟩ | ⟨rfl, rfl⟩ <;> omega
    have br2 : -2000 ≤ a * σ.2 8 t ∧ a * σ.2 8 t ≤ 2000 := by rcases ab with ⟨rfl, rfl⟩ | ⟨rfl, rfl⟩ | ⟨rfl, rfl⟩ | ⟨rfl, rfl⟩ <;> omega
    have w8 : wr t 8 t := by unfold wr; omega
    clear hm
    generalize setI σ2 9 0 = σ3 at *
    -- no building
    have fin0 : ∀ v : Int, ¬ levC a b (σ.2 8 t) T → v = (if tz T = 1 then 0 else σ.2 8 t) → LevP t (σ.1 18) a b T k σ (setA σ3 8 t v) := by
      intro v hn hv
      unfold LevP levM
      rw [levR_b hn]
      refine ⟨L2.cg (fun f i _ f2 => setA_2o (by omega)), f9, by rw [setA_2o (by decide), e7], by rw [setA_2s, hv], by rw [setA_2o (by decide), e10]; simp [bn], by rw [setA_2o (by decide), e11]; simp, fun t0 => ?_, F2.trans (Fr.sA w8)⟩
      rw [if_pos rfl, hfe]
      exact mo t0
    refine v_aload_n (n' := 30) h dX2_leave_29 rfl rfl ?_
    refine vm_geta (n' := 33) h 7 (by decide) q944 dX2_leave_30 rfl ?_
    refine v_iload_n (n' := 34) h dX2_leave_33 rfl rfl ?_
    refine vm_iald (n' := 35) h hok m2 7 2 (by decide) dX2_leave_34 rfl (by omega) (by decide) (fun g34 => ?_)
    rw [e7] at g34 ⊢
    refine v_if_le (n' := 38) (tgt := 88) h dX2_leave_35 rfl rfl (by omega) (fun c35 => ?_) (fun c35 => ?_)
    · refine v_aload_n (n' := 89) h dX2_leave_88 rfl rfl ?_
      refine vm_geta (n' := 92) h 8 (by decide) q945 dX2_leave_89 rfl ?_
      refine v_iload_n (n' := 93) h dX2_leave_92 rfl rfl ?_
      refine v_aload_n (n' := 94) h dX2_leave_93 rfl rfl ?_
      refine vm_geta (n' := 97) h 7 (by decide) q944 dX2_leave_94 rfl ?_
      refine v_iload_n (n' := 98) h dX2_leave_97 rfl rfl ?_
      refine vm_iald (n' := 99) h hok m2 7 2 (by decide) dX2_leave_98 rfl (by omega) (by decide) (fun g98 => ?_)
      rw [e7]
      refine v_if_ne (n' := 102) (tgt := 106) h dX2_leave_99 rfl rfl (by omega) (fun c99 => ?_) (fun c99 => ?_)
      · exact absurd c35 (by omega)
      · refine v_iconst (n' := 103) h dX2_leave_102 rfl ?_
        refine v_goto (tgt := 112) h dX2_leave_103 rfl ?_
        refine vm_iast (n' := 113) h hok m2 8 2 (by decide) dX2_leave_112 rfl (by omega) (by decide) (by omega) (fun m112 => ?_)
        refine v_vret h hq dX2_leave_113 (Nat.le_refl _) (Nat.le_refl _) (ret_mv m112 ?_)
        exact fin0 _ (fun z => by have := z.1; omega) (by rw [if_pos (by omega)])
    · refine v_aload_n (n' := 39) h dX2_leave_38 rfl rfl ?_
      refine v_iload_n (n' := 40) h dX2_leave_39 rfl rfl ?_
      refine vm_callI (n' := 43) h hok m2 (m_b _ _ ht) rfl (lw_V q1172 q1174 qs51 q87 q1175) hdX2_b (by decide) ⟨Nat.zero_le _, Nat.zero_le _⟩ (Nat.le_of_ble_eq_true rfl) dX2_leave_40 rfl rfl (fun z40 s40 p40 m40 => ?_)
      obtain ⟨ez40, fz40⟩ := p40
      have ez40 := ez40.symm
      have fz40 := fz40.symm
      subst ez40 fz40
      refine v_aload_n (n' := 44) h dX2_leave_43 rfl rfl ?_
      refine vm_geta (n' := 47) h 7 (by decide) q944 dX2_leave_44 rfl ?_
      refine v_iload_n (n' := 48) h dX2_leave_47 rfl rfl ?_
      refine vm_iald (n' := 49) h hok m40 7 2 (by decide) dX2_leave_48 rfl (by omega) (by decide) (fun g48 => ?_)
      rw [nb2, e7]
      refine v_imul (n' := 50) h dX2_leave_49 rfl ?_
      refine v_aload_n (n' := 51) h dX2_leave_50 rfl rfl ?_
      refine v_iload_n (n' := 52) h dX2_leave_51 rfl rfl ?_
      refine vm_callI (n' := 55) h hok m40 (m_a _ _ ht) rfl (lw_V q1176 q1178 qs52 q87 q1179) hdX2_a (by decide) ⟨Nat.zero_le _, Nat.zero_le _⟩ (Nat.le_of_ble_eq_true rfl) dX2_leave_52 rfl rfl (fun z52 s52 p52 m52 => ?_)
      obtain ⟨ez52, fz52⟩ := p52
      have ez52 := ez52.symm
      have fz52 := fz52.symm
      subst ez52 fz52
      refine v_aload_n (n' := 56) h dX2_leave_55 rfl rfl ?_
      refine vm_geta (n' := 59) h 8 (by decide) q945 dX2_leave_56 rfl ?_
      refine v_iload_n (n' := 60) h dX2_leave_59 rfl rfl ?_
      refine vm_iald (n' := 61) h hok m52 8 2 (by decide) dX2_leave_60 rfl (by omega) (by decide) (fun g60 => ?_)
      rw [na2, e8]
      refine v_imul (n' := 62) h dX2_leave_61 rfl ?_
      refine v_icmp_ge (n' := 65) (tgt := 88) h dX2_leave_62 rfl rfl (by omega) (by omega) (fun c62 => ?_) (fun c62 => ?_)
      · refine v_aload_n (n' := 89) h dX2_leave_88 rfl rfl ?_
        refine vm_geta (n' := 92) h 8 (by decide) q945 dX2_leave_89 rfl ?_
        refine v_iload_n (n' := 93) h dX2_leave_92 rfl rfl ?_
        refine v_aload_n (n' := 94) h dX2_leave_93 rfl rfl ?_
        refine vm_geta (n' := 97) h 7 (by decide) q944 dX2_leave_94 rfl ?_
        refine v_iload_n (n' := 98) h dX2_leave_97 rfl rfl ?_
        refine vm_iald (n' := 99) h hok m52 7 2 (by decide) dX2_leave_98 rfl (by omega) (by decide) (fun g98 => ?_)
        rw [e7]
        refine v_if_ne (n' := 102) (tgt := 106) h dX2_leave_99 rfl rfl (by omega) (fun c99 => ?_) (fun c99 => ?_)
        · refine v_aload_n (n' := 107) h dX2_leave_106 rfl rfl ?_
          refine vm_geta (n' := 110) h 8 (by decide) q945 dX2_leave_107 rfl ?_
          refine v_iload_n (n' := 111) h dX2_leave_110 rfl rfl ?_
          refine vm_iald (n' := 112) h hok m52 8 2 (by decide) dX2_leave_111 rfl (by omega) (by decide) (fun g111 => ?_)
          refine vm_iast (n' := 113) h hok m52 8 2 (by decide) dX2_leave_112 rfl (by omega) (by decide) (by omega) (fun m112 => ?_)
          refine v_vret h hq dX2_leave_113 (Nat.le_refl _) (Nat.le_refl _) (ret_mv m112 ?_)
          exact fin0 _ (fun z => by have := z.2; omega) (by rw [if_neg (by omega), e8])
        · exact absurd c99 (by omega)
      · have hC : levC a b (σ.2 8 t) T := ⟨by omega, by omega⟩
        have hne : del T k ≠ .leaf () := fun z => by rw [z] at hdz; simp only [tz] at hdz; omega
        obtain ⟨x, hx⟩ : ∃ x, ro (del T k) = some x := by
          cases hr : ro (del T k) with
          | none => exact absurd (ro_none.mp hr) hne
          | some x => exact ⟨x, rfl⟩
        have hxT := ro_mem hx
        have hrx : rk (del T k) = (x : Int) := by rw [rk_ro, hx]
        have hx100 := L2.2.2.2.2.1 x hxT
        obtain ⟨gr1, sb1⟩ := gr_root (S := flat (del T k)) hrx
        refine v_aload_n (n' := 66) h dX2_leave_65 rfl rfl ?_
        refine v_iload_n (n' := 67) h dX2_leave_66 rfl rfl ?_
        refine v_aload_n (n' := 68) h dX2_leave_67 rfl rfl ?_
        refine vm_geta (n' := 71) h 6 (by decide) q943 dX2_leave_68 rfl ?_
        refine v_iload_n (n' := 72) h dX2_leave_71 rfl rfl ?_
        refine vm_iald (n' := 73) h hok m52 6 2 (by decide) dX2_leave_72 rfl (by omega) (by decide) (fun g72 => ?_)
        rw [e6, hrx]
        refine vm_callV (n' := 76) h hok m52 (m_build _ _ ht _ L2 x hxT (by rw [e10]; exact n10) (by rw [e11]; exact n11) mo19) rfl (lw_V q1192 q1194 qs56 q87 q1195) hdX2_build (by decide) ⟨Nat.zero_le _, Nat.zero_le _⟩ (Nat.le_of_ble_eq_true rfl) dX2_leave_73 rfl rfl (fun s73 p73 m73 => ?_)
        obtain ⟨b1, b9, b7, b8, b10, b11, bm, bF⟩ := p73
        rw [sb1] at b1 b9 b11 bm
        rw [gr1] at b1
        have b7' : s73.2 7 t = (tz T : Int) - 1 := by rw [b7, e7]
        refine v_aload_n (n' := 77) h dX2_leave_76 rfl rfl ?_
        refine vm_geta (n' := 80) h 8 (by decide) q945 dX2_leave_77 rfl ?_
        refine v_iload_n (n' := 81) h dX2_leave_80 rfl rfl ?_
        refine v_aload_n (n' := 82) h dX2_leave_81 rfl rfl ?_
        refine vm_geta (n' := 85) h 7 (by decide) q944 dX2_leave_82 rfl ?_
        refine v_iload_n (n' := 86) h dX2_leave_85 rfl rfl ?_
        refine vm_iald (n' := 87) h hok m73 7 2 (by decide) dX2_leave_86 rfl (by omega) (by decide) (fun g86 => ?_)
        rw [b7']
        refine vm_iast (n' := 88) h hok m73 8 2 (by decide) dX2_leave_87 rfl (by omega) (by decide) (by omega) (fun m87 => ?_)
        refine v_aload_n (n' := 89) h dX2_leave_88 rfl rfl ?_
        refine vm_geta (n' := 92) h 8 (by decide) q945 dX2_leave_89 rfl ?_
        refine v_iload_n (n' := 93) h dX2_leave_92 rfl rfl ?_
        refine v_aload_n (n' := 94) h dX2_leave_93 rfl rfl ?_
        refine vm_geta (n' := 97) h 7 (by decide) q944 dX2_leave_94 rfl ?_
        refine v_iload_n (n' := 98) h dX2_leave_97 rfl rfl ?_
        refine vm_iald (n' := 99) h hok m87 7 2 (by decide) dX2_leave_98 rfl (by omega) (by decide) (fun g98 => ?_)
        rw [show (setA s73 8 t ((tz T : Int) - 1)).2 7 t = (tz T : Int) - 1 from by rw [setA_2o (by decide), b7']]
        refine v_if_ne (n' := 102) (tgt := 106) h dX2_leave_99 rfl rfl (by omega) (fun c99 => ?_) (fun c99 => ?_)
        · refine v_aload_n (n' := 107) h dX2_leave_106 rfl rfl ?_
          refine vm_geta (n' := 110) h 8 (by decide) q945 dX2_leave_107 rfl ?_
          refine v_iload_n (n' := 111) h dX2_leave_110 rfl rfl ?_
          refine vm_iald (n' := 112) h hok m87 8 2 (by decide) dX2_leave_111 rfl (by omega) (by decide) (fun g111 => ?_)
          refine vm_iast (n' := 113) h hok m87 8 2 (by decide) dX2_leave_112 rfl (by omega) (by decide) (by omega) (fun m112 => ?_)
          refine v_vret h hq dX2_leave_113 (Nat.le_refl _) (Nat.le_refl _) (ret_mv m112 ?_)
          unfold LevP levM
          rw [levR_a hC]
          have ez : tz (del T k) = tz T - 1 := by omega
          rw [ez] at b9 b11 bm
          have hz0 : tz T - 1 ≠ 0 := by omega
          refine ⟨b1.cg (fun f i _ f2 => by rw [setA_2o (by omega), setA_2o (by omega)]), b9, ?_, ?_, ?_, ?_, fun t0 => ?_, ((F2.trans bF).trans (Fr.sA w8)).trans (Fr.sA w8)⟩
          · rw [setA_2o (by decide), setA_2o (by decide), b7']
          · rw [setA_2s, setA_2s]
          · rw [setA_2o (by decide), setA_2o (by decide), b10, e10]; simp [bn, hz0]
          · rw [setA_2o (by decide), setA_2o (by decide), b11, e11]
          · obtain ⟨m1, m2'⟩ := bm t0
            have mo0 := mo t0
            simp only [Prod.mk.injEq, payN] at mo0
            dsimp only
            rw [if_neg hz0, setA_1, setA_1, m1, m2', mo0.1, mo0.2, hfe]
            simp only [payN]
            rw [show σ.1 19 + fe + (0 - ((tz T - 1 : Nat) : Int)) = σ.1 19 + fe - ((tz T - 1 : Nat) : Int) by omega]
        · exact absurd c99 (by omega)
  refine v_aload_n (n' := 1) h dX2_leave_0 rfl rfl ?_
  refine v_iload_n (n' := 2) h dX2_leave_1 rfl rfl ?_
  refine v_aload_n (n' := 3) h dX2_leave_2 rfl rfl ?_
  refine vm_geti (n' := 6) h hm 18 (by decide) q955 dX2_leave_3 rfl (fun g3 => ?_)
  refine v_aload_n (n' := 7) h dX2_leave_6 rfl rfl ?_
  refine v_iload_n (n' := 8) h dX2_leave_7 rfl rfl ?_
  refine v_iload_n (n' := 9) h dX2_leave_8 rfl rfl ?_
  refine vm_callI (n' := 12) h hok hm (m_depth _ _ ht T hT k hk) rfl (lw_V q1160 q1162 qs48 q87 q1163) hdX2_depth (by decide) ⟨Nat.zero_le _, Nat.zero_le _⟩ (Nat.le_of_ble_eq_true rfl) dX2_leave_9 rfl rfl (fun z9 s9 p9 m9 => ?_)
  obtain ⟨ez9, fz9⟩ := p9
  have ez9 := ez9.symm
  have fz9 := fz9.symm
  subst ez9 fz9
  refine v_iconst (n' := 13) h dX2_leave_12 rfl ?_
  refine v_iadd (n' := 14) h dX2_leave_13 rfl ?_
  refine v_imul (n' := 15) h dX2_leave_14 rfl ?_
  rw [hfe]
  refine vm_callV (n' := 18) h hok m9 (m_pay _ _ _ ht (by omega) (by omega)) rfl (lw_V q1164 q1166 qs49 q87 q1167) hdX2_pay (by decide) ⟨Nat.zero_le _, Nat.zero_le _⟩ (Nat.le_of_ble_eq_true rfl) dX2_leave_15 rfl rfl (fun s15 p15 m15 => ?_)
  have p15 := p15.symm
  subst p15
  refine v_aload_n (n' := 19) h dX2_leave_18 rfl rfl ?_
  refine v_iload_n (n' := 20) h dX2_leave_19 rfl rfl ?_
  refine v_iload_n (n' := 21) h dX2_leave_20 rfl rfl ?_
  refine vm_callV (n' := 24) h hok m15 (m_remove _ _ ht T (hT.cg (fun f i _ _ => by rw [payS_2])) k hk (by rw [payS_2]; exact n7)) rfl (lw_V q1259 q1261 qs66 q87 q1262) hdX2_remove (by decide) ⟨Nat.zero_le _, Nat.zero_le _⟩ (Nat.le_of_ble_eq_true rfl) dX2_leave_21 rfl rfl (fun s21 p21 m21 => ?_)
  refine v_aload_n (n' := 25) h dX2_leave_24 rfl rfl ?_
  refine v_iconst (n' := 26) h dX2_leave_25 rfl ?_
  refine vm_puti (n' := 29) h m21 9 (by decide) q946 dX2_leave_26 rfl (by omega) (fun m26 => ?_)
  exact go _ m26 p21
