/-! MODEL 9: what is told -/
set_option maxRecDepth 100000
def lch (T : Tr) (k : Nat) : Int := match sub T k with
  | .leaf _ => -1
  | .branch _ l _ => rk l
def rch (T : Tr) (k : Nat) : Int := match sub T k with
  | .leaf _ => -1
  | .branch _ _ r => rk r
def lessN (T : Tr) (k : Nat) : Int := (((tl T).filter (fun x => decide (x < k))).length : Int)
def tellE (h : Shf) (k : Nat) (what : Int) : Int := if what = 0 then h.2.1 k else if what = 1 then h.2.2.1 k else if what = 2 then (dep h.1.1 k : Int) else if what = 3 then (tz (sub h.1.1 k) : Int) else if what = 4 then lch h.1.1 k else if what = 5 then rch h.1.1 k else if what = 6 then prt h.1.1 k (-1) else lessN h.1.1 k
abbrev there (s : SS) (key : Int) : Prop := 0 ≤ key ∧ key.toNat ∈ tl (sC s).1.1
def oEntry (s : SS) (key what : Int) : Int := if there s key then (if 0 ≤ what ∧ what ≤ 7 then tellE (sC s) key.toNat what else -102) else -101
def oAs (s : SS) (key kind : Int) : Int := if there s key then (if 0 ≤ kind ∧ kind ≤ 4 then (if kind = 0 ∨ kind = (sC s).2.1 key.toNat ∨ (kind = 1 ∧ (sC s).2.1 key.toNat = 4) then key else -1) else -102) else -101
def oAt (s : SS) (n : Int) : Int := if 0 ≤ n ∧ n < (tz (sC s).1.1 : Int) then (((tl (sC s).1.1).getD n.toNat 0 : Nat) : Int) else -101
def nxt (T : Tr) (n : Int) : Int := match (tl T).find? (fun x : Nat => decide (n < (x : Int))) with
  | none => -1
  | some x => (x : Int)
def oNext (s : SS) (n : Int) : Int := if sSh s = 0 then -103 else nxt (sC s).1.1 n
/-! what holds of every state that is reached -/
def lstep (s : List Nat) (x : Int) : List Nat := if x < 0 then s.filter (fun k => decide (k ≠ (-1 - x).toNat)) else x.toNat :: s
def lvalid : List Nat → List Int → Prop
  | _, [] => True
  | s, x :: l => (if x < 0 then (-1 - x).toNat ∈ s ∧ -1 - x < 100 else x < 100 ∧ x.toNat ∉ s ∧ s.length < 40) ∧ lvalid (lstep s x) l
def LogOk (lg : List Int) (T : Tr) : Prop := lvalid [] lg ∧ (lg.length < 60 → (lg.foldl lstep []).Perm (tl T))
def SeenOk (sn : List (Int × Int × Int)) : Prop := ∀ x ∈ sn, (0 ≤ x.1 ∧ x.1 < 100) ∧ (0 ≤ x.2.1 ∧ x.2.1 ≤ 3) ∧ (x.2.2 = 0 ∨ x.2.2 = 1)
def ShOk (h : Shf) (B : Int) : Prop := Srt h.1.1 ∧ (∀ k ∈ tl h.1.1, k < 100) ∧ tz h.1.1 ≤ 40 ∧ TeB h.1 B ∧ (∀ k ∈ tl h.1.1, (0 ≤ h.2.1 k ∧ h.2.1 k ≤ 4) ∧ (0 ≤ h.2.2.1 k ∧ h.2.2.1 k ≤ 999)) ∧ LogOk h.2.2.2.1 h.1.1 ∧ SeenOk h.2.2.2.2
def SInv (s : SS) (n : Int) : Prop := (∀ i, 0 ≤ sPg s i ∧ sPg s i ≤ 126) ∧ (0 ≤ sPn s ∧ sPn s ≤ 54) ∧ (0 ≤ sSh s ∧ sSh s ≤ n) ∧ ((sSh s = 0 ∧ sB s = 0 ∧ tl (sC s).1.1 = [] ∧ sA s = 0 ∧ sF s = 0) ∨ (0 < sSh s ∧ isRat (sA s) (sB s) ∧ 0 ≤ sF s ∧ sF s ≤ 9)) ∧ ShOk (sC s) (4000 * n) ∧ (sKn s = sSh s → 0 < sSh s ∧ ShOk (sK s) (4000 * n)) ∧ (-1 ≤ sKn s ∧ sKn s ≤ sSh s) ∧ (0 ≤ n ∧ n ≤ 64)
theorem SInv.b0 {s : SS} {n : Int} (h : SInv s n) : sB s = 0 ↔ sSh s = 0 := by
  rcases h.2.2.2.1 with ⟨a1, a2, -⟩ | ⟨a1, a2, -⟩
  · exact ⟨fun _ => a1, fun _ => a2⟩
  · have := rat_cases a2
    exact ⟨fun z => by omega, fun z => by omega⟩
theorem TeB.le {te : Tre} {B B' : Int} (h : TeB te B) (hB : B ≤ B') : TeB te B' := by
  unfold TeB at h ⊢
  omega
theorem SInv.tb {s : SS} {n : Int} (h : SInv s n) : TeB (sC s).1 1000000 := h.2.2.2.2.1.2.2.2.1.le (by have := h.2.2.2.2.2.2.2; omega)
theorem m_lacks (σ : MS) (s : SS) (n : Int) (hR : MRel σ s) (hI : SInv s n) : MCi yX2_lacks cX2_lacks 1 (some .boolean) 1 [] σ (fun z σ' => z = bi (sSh s = 0) ∧ σ' = σ) := by
  intro ad hok hm
  have e := hI.b0
  have h15 := hR.2.2.2.2.1
  refine Ct.of (by decide) (EL.c1 rfl EL.n0) (fun Γ h hq hnm => ?_)
  refine v_aload_n (n' := 1) h dX2_lacks_0 rfl rfl ?_
  refine vm_geti (n' := 4) h hm 15 (by decide) q952 dX2_lacks_1 rfl (fun g1 => ?_)
  refine v_if_ne (n' := 7) (tgt := 11) h dX2_lacks_4 rfl rfl (by omega) (fun c4 => ?_) (fun c4 => ?_)
  · refine v_iconst (n' := 12) h dX2_lacks_11 rfl ?_
    refine v_zret h hq dX2_lacks_12 (by decide) (Nat.le_refl _) (Nat.le_refl _) (ret_mi hm ?_)
    exact ⟨(bi_f (by rw [h15] at c4; first | exact e.mp c4 | exact fun z => c4 (e.mpr z))).symm, rfl⟩
  · refine v_iconst (n' := 8) h dX2_lacks_7 rfl ?_
    refine v_goto (tgt := 12) h dX2_lacks_8 rfl ?_
    refine v_zret h hq dX2_lacks_12 (by decide) (Nat.le_refl _) (Nat.le_refl _) (ret_mi hm ?_)
    exact ⟨(bi_t (by rw [h15] at c4; first | exact e.mp c4 | exact fun z => c4 (e.mpr z))).symm, rfl⟩
theorem m_isThere (σ : MS) (s : SS) (n : Int) (hR : MRel σ s) (hI : SInv s n) (key : Int) (hk : -2147483648 ≤ key ∧ key ≤ 2147483647) : MCi yX2_isThere cX2_isThere 2 (some .boolean) 2 [.int (iI key)] σ (fun z σ' => z = bi (there s key) ∧ σ' = σ) := by
  intro ad hok hm
  have hT := hR.2.2.2.2.2.2.1.1.1
  have h3 := hT.2.2.1 key.toNat
  refine Ct.of (by decide) (EL.c1 rfl (EL.c1 rfl EL.n0)) (fun Γ h hq hnm => ?_)
  refine v_aload_n (n' := 1) h dX2_isThere_0 rfl rfl ?_
  refine vm_callI (n' := 4) h hok hm (m_lacks _ _ _ hR hI) rfl (lw_V q1216 q1218 qs61 q87 q1219) hdX2_lacks (by decide) ⟨Nat.zero_le _, Nat.zero_le _⟩ (Nat.le_of_ble_eq_true rfl) dX2_isThere_1 rfl rfl (fun z1 s1 p1 m1 => ?_)
  obtain ⟨ez1, fz1⟩ := p1
  have ez1 := ez1.symm
  have fz1 := fz1.symm
  subst ez1 fz1
  refine v_bif_ne (n' := 7) (tgt := 33) h dX2_isThere_4 rfl rfl (fun c4 => ?_) (fun c4 => ?_)
  · refine v_iconst (n' := 34) h dX2_isThere_33 rfl ?_
    refine v_zret h hq dX2_isThere_34 (by decide) (Nat.le_refl _) (Nat.le_refl _) (ret_mi m1 ?_)
    refine ⟨(bi_f (fun z => ?_)).symm, rfl⟩
    rcases hI.2.2.2.1 with ⟨a1, a2, a3, -⟩ | ⟨a1, -⟩
    · have := z.2; rw [a3] at this; simp at this
    · omega
  · refine v_iload_n (n' := 8) h dX2_isThere_7 rfl rfl ?_
    refine v_i2l (n' := 9) h dX2_isThere_8 rfl (by omega) ?_
    refine v_lconst (n' := 10) (y := 0) h dX2_isThere_9 rfl rfl ?_
    refine v_ldc2 (n' := 13) (z := 99) h dX2_isThere_10 rfl q1220 (by decide) ?_
    refine vs_callI (n' := 16) h (m_in _ _ _ (by omega) (by omega) (by omega)) (lw_S q1093 q1094 q87 q1095) hdX2_in (by decide) ⟨Nat.zero_le _, Nat.zero_le _⟩ (Nat.le_of_ble_eq_true rfl) dX2_isThere_13 rfl rfl (fun z13 p13 => ?_)
    have p13 := p13.symm
    subst p13
    refine v_bif_eq (n' := 19) (tgt := 33) h dX2_isThere_16 rfl rfl (fun c16 => ?_) (fun c16 => ?_)
    · refine v_iconst (n' := 34) h dX2_isThere_33 rfl ?_
      refine v_zret h hq dX2_isThere_34 (by decide) (Nat.le_refl _) (Nat.le_refl _) (ret_mi m1 ?_)
      refine ⟨(bi_f (fun z => ?_)).symm, rfl⟩
      have := hT.2.2.2.2.1 _ z.2
      omega
    · refine v_aload_n (n' := 20) h dX2_isThere_19 rfl rfl ?_
      refine vm_geta (n' := 23) h 5 (by decide) q942 dX2_isThere_20 rfl ?_
      refine v_iload_n (n' := 24) h dX2_isThere_23 rfl rfl ?_
      refine vm_iald (n' := 25) h hok m1 5 200 (by decide) dX2_isThere_24 rfl (by omega) (by decide) (fun g24 => ?_)
      refine v_iconst (n' := 26) h dX2_isThere_25 rfl ?_
      refine v_icmp_ne (n' := 29) (tgt := 33) h dX2_isThere_26 rfl rfl (by omega) (by omega) (fun c26 => ?_) (fun c26 => ?_)
      · refine v_iconst (n' := 34) h dX2_isThere_33 rfl ?_
        refine v_zret h hq dX2_isThere_34 (by decide) (Nat.le_refl _) (Nat.le_refl _) (ret_mi m1 ?_)
        refine ⟨(bi_f (fun z => ?_)).symm, rfl⟩
        have h3 := h3 (by omega)
        rw [if_pos z.2, show 100 * (0 : Int) + ((key.toNat : Nat) : Int) = key by omega] at h3
        exact c26 h3
      · refine v_iconst (n' := 30) h dX2_isThere_29 rfl ?_
        refine v_goto (tgt := 34) h dX2_isThere_30 rfl ?_
        refine v_zret h hq dX2_isThere_34 (by decide) (Nat.le_refl _) (Nat.le_refl _) (ret_mi m1 ?_)
        refine ⟨(bi_t ?_).symm, rfl⟩
        have h3 := h3 (by omega)
        rw [show 100 * (0 : Int) + ((key.toNat : Nat) : Int) = key by omega] at h3
        refine ⟨c16.1, Classical.byContradiction (fun z => ?_)⟩
        rw [if_neg z] at h3
        omega
def less (T : Tr) (k : Nat) : List Nat := (tl T).filter (fun x => decide (x < k))
theorem less_s {T : Tr} (hs : Srt T) (k : Nat) : less T (k + 1) = less T k ++ (if k ∈ tl T then [k] else []) := by
  have := srt_step hs k (fun _ => true)
  simpa [less] using this
theorem less_len {T : Tr} {k : Nat} : (less T k).length ≤ tz T := by
  rw [← tz_len]
  exact List.length_filter_le _ _
theorem m_lessMany_loop {Γ : GX} {σ : MS} {ad : Nat → Nat} {T : Tr} {k : Nat} (hok : AdOk ad) (hm : MR σ) (hT : LR σ 0 T) (hk : k ≤ 100) (h : Ok0 cX2_lessMany yX2_lessMany.cls (some .int) (rmL 1) Γ) (hq : Rt (PI ad (fun z σ' => z = lessN T k ∧ σ' = σ)) 0 0 Γ) :
    ∀ (n j : Nat), j + n = k → V Γ 0 0 (mH ad σ) 4 [some (.ref (ad 50)), some (.int (iI (k : Int))), some (.int (iI ((less T j).length : Int))), some (.int (iI (j : Int)))] [] := by
  intro n
  induction n with
  | zero =>
    intro j hj
    obtain rfl : j = k := by omega
    refine v_iload_n (n' := 5) h dX2_lessMany_4 rfl rfl ?_
    refine v_iload_n (n' := 6) h dX2_lessMany_5 rfl rfl ?_
    refine v_icmp_ge (n' := 9) (tgt := 24) h dX2_lessMany_6 rfl rfl (by omega) (by omega) (fun c6 => ?_) (fun c6 => ?_)
    · refine v_iload_n (n' := 25) h dX2_lessMany_24 rfl rfl ?_
      refine v_iret h hq dX2_lessMany_25 (Nat.le_refl _) (Nat.le_refl _) (ret_mi hm ?_)
      exact ⟨rfl, rfl⟩
    · exact absurd (Int.le_refl _) c6
  | succ n ih =>
    intro j hj
    have e := less_s hT.2.2.2.1 j
    have hth := hT.2.2.1 j (by omega)
    have ih := ih (j + 1) (by omega)
    have ek : ((j + 1 : Nat) : Int) = (j : Int) + 1 := by omega
    have hl := less_len (T := T) (k := j)
    have hz := hT.2.2.2.2.2
    rw [show 100 * (0 : Int) + (j : Int) = (j : Int) by omega] at hth
    have e2 : (((less T (j + 1)).length : Nat) : Int) = ((less T j).length : Int) + σ.2 5 (j : Int) := by
      rw [e, hth, List.length_append]
      split <;> simp
    rw [ek, e2] at ih
    refine v_iload_n (n' := 5) h dX2_lessMany_4 rfl rfl ?_
    refine v_iload_n (n' := 6) h dX2_lessMany_5 rfl rfl ?_
    refine v_icmp_ge (n' := 9) (tgt := 24) h dX2_lessMany_6 rfl rfl (by omega) (by omega) (fun c6 => ?_) (fun c6 => ?_)
    · exact absurd c6 (by omega)
    · refine v_iload_n (n' := 10) h dX2_lessMany_9 rfl rfl ?_
      refine v_aload_n (n' := 11) h dX2_lessMany_10 rfl rfl ?_
      refine vm_geta (n' := 14) h 5 (by decide) q942 dX2_lessMany_11 rfl ?_
      refine v_iload_n (n' := 15) h dX2_lessMany_14 rfl rfl ?_
      refine vm_iald (n' := 16) h hok hm 5 200 (by decide) dX2_lessMany_15 rfl (by omega) (by decide) (fun g15 => ?_)
      refine v_iadd (n' := 17) h dX2_lessMany_16 rfl ?_
      refine v_istore2 (n' := 18) h dX2_lessMany_17 rfl rfl ?_
      refine v_iinc3 (n' := 21) h dX2_lessMany_18 rfl rfl ?_
      refine v_goto (tgt := 4) h dX2_lessMany_21 rfl ?_
      exact ih
theorem m_lessMany (σ : MS) (T : Tr) (hT : LR σ 0 T) (k : Nat) (hk : k ≤ 100) : MCi yX2_lessMany cX2_lessMany 4 (some .int) 1 [.int (iI (k : Int))] σ (fun z σ' => z = lessN T k ∧ σ' = σ) := by
  intro ad hok hm
  refine Ct.of (by decide) (EL.c1 rfl (EL.c1 rfl (EL.nn (EL.nn EL.n0)))) (fun Γ h hq hnm => ?_)
  have lp := m_lessMany_loop hok hm hT hk h hq k 0 (by omega)
  have e : less T 0 = [] := by
    unfold less
    rw [List.filter_eq_nil_iff]
    intro x _
    simp
  rw [e] at lp
  refine v_iconst (n' := 1) h dX2_lessMany_0 rfl ?_
  refine v_istore2 (n' := 2) h dX2_lessMany_1 rfl rfl ?_
  refine v_iconst (n' := 3) h dX2_lessMany_2 rfl ?_
  refine v_istore3 (n' := 4) h dX2_lessMany_3 rfl rfl ?_
  exact lp
theorem m_tellEntry (σ : MS) (s : SS) (n : Int) (hR : MRel σ s) (hI : SInv s n) (k : Nat) (hk : k ∈ tl (sC s).1.1) (what : Int) (hw : -2147483648 ≤ what ∧ what ≤ 2147483647) : MCi yX2_tellEntry cX2_tellEntry 3 (some .int) 3 [.int (iI (k : Int)), .int (iI what)] σ (fun z σ' => z = (if 0 ≤ what ∧ what ≤ 7 then tellE (sC s) k what else -102) ∧ σ' = σ) := by
  intro ad hok hm
  have hT := hR.2.2.2.2.2.2.1.1.1
  have hk100 := hT.2.2.2.2.1 k hk
  obtain ⟨kv1, kv2⟩ := hR.2.2.2.2.2.2.1.2.1 k hk
  obtain ⟨l, r, hsub⟩ := sub_root hT.2.2.2.1 hk
  have hRS := rep_sub hT.2.2.2.1 hk hT.1
  rw [hsub] at hRS
  obtain ⟨q4, q2, q3, -, -⟩ := hRS
  have e0 : 100 * (0 : Int) + (k : Int) = (k : Int) := by omega
  rw [e0] at q4 q2 q3
  refine Ct.of (by decide) (EL.c1 rfl (EL.c1 rfl (EL.c1 rfl EL.n0))) (fun Γ h hq hnm => ?_)
  refine v_iload_n (n' := 1) h dX2_tellEntry_0 rfl rfl ?_
  refine v_table8 (t0 := 48) (t1 := 55) (t2 := 62) (t3 := 69) (t4 := 76) (t5 := 83) (t6 := 90) (t7 := 97) (td := 103) h dX2_tellEntry_1 (by omega) rfl rfl rfl rfl rfl rfl rfl rfl rfl rfl (fun s1 => ?_) (fun s1 => ?_) (fun s1 => ?_) (fun s1 => ?_) (fun s1 => ?_) (fun s1 => ?_) (fun s1 => ?_) (fun s1 => ?_) (fun s1 => ?_)
  · refine v_aload_n (n' := 49) h dX2_tellEntry_48 rfl rfl ?_
    refine vm_geta (n' := 52) h 12 (by decide) q949 dX2_tellEntry_49 rfl ?_
    refine v_iload_n (n' := 53) h dX2_tellEntry_52 rfl rfl ?_
    refine vm_iald (n' := 54) h hok hm 12 100 (by decide) dX2_tellEntry_53 rfl (by omega) (by decide) (fun g53 => ?_)
    refine v_iret h hq dX2_tellEntry_54 (Nat.le_refl _) (Nat.le_refl _) (ret_mi hm ?_)
    subst s1; exact ⟨by rw [if_pos (by decide), kv1]; rfl, rfl⟩
  · refine v_aload_n (n' := 56) h dX2_tellEntry_55 rfl rfl ?_
    refine vm_geta (n' := 59) h 13 (by decide) q950 dX2_tellEntry_56 rfl ?_
    refine v_iload_n (n' := 60) h dX2_tellEntry_59 rfl rfl ?_
    refine vm_iald (n' := 61) h hok hm 13 100 (by decide) dX2_tellEntry_60 rfl (by omega) (by decide) (fun g60 => ?_)
    refine v_iret h hq dX2_tellEntry_61 (Nat.le_refl _) (Nat.le_refl _) (ret_mi hm ?_)
    subst s1; exact ⟨by rw [if_pos (by decide), kv2]; rfl, rfl⟩
  · refine v_aload_n (n' := 63) h dX2_tellEntry_62 rfl rfl ?_
    refine v_iconst (n' := 64) h dX2_tellEntry_63 rfl ?_
    refine v_iload_n (n' := 65) h dX2_tellEntry_64 rfl rfl ?_
    refine vm_callI (n' := 68) h hok hm (m_depth _ _ (Or.inl rfl) _ hT k hk) rfl (lw_V q1160 q1162 qs48 q87 q1163) hdX2_depth (by decide) ⟨Nat.zero_le _, Nat.zero_le _⟩ (Nat.le_of_ble_eq_true rfl) dX2_tellEntry_65 rfl rfl (fun z65 s65 p65 m65 => ?_)
    obtain ⟨ez65, fz65⟩ := p65
    have ez65 := ez65.symm
    have fz65 := fz65.symm
    subst ez65 fz65
    refine v_iret h hq dX2_tellEntry_68 (Nat.le_refl _) (Nat.le_refl _) (ret_mi m65 ?_)
    subst s1; exact ⟨by rw [if_pos (by decide)]; rfl, rfl⟩
  · refine v_aload_n (n' := 70) h dX2_tellEntry_69 rfl rfl ?_
    refine v_iconst (n' := 71) h dX2_tellEntry_70 rfl ?_
    refine v_iload_n (n' := 72) h dX2_tellEntry_71 rfl rfl ?_
    refine vm_callI (n' := 75) h hok hm (m_size _ _ (Or.inl rfl) _ hT k hk) rfl (lw_V q1184 q1186 qs54 q87 q1187) hdX2_size (by decide) ⟨Nat.zero_le _, Nat.zero_le _⟩ (Nat.le_of_ble_eq_true rfl) dX2_tellEntry_72 rfl rfl (fun z72 s72 p72 m72 => ?_)
    obtain ⟨ez72, fz72⟩ := p72
    have ez72 := ez72.symm
    have fz72 := fz72.symm
    subst ez72 fz72
    refine v_iret h hq dX2_tellEntry_75 (Nat.le_refl _) (Nat.le_refl _) (ret_mi m72 ?_)
    subst s1; exact ⟨by rw [if_pos (by decide)]; rfl, rfl⟩
  · refine v_aload_n (n' := 77) h dX2_tellEntry_76 rfl rfl ?_
    refine vm_geta (n' := 80) h 2 (by decide) q939 dX2_tellEntry_77 rfl ?_
    refine v_iload_n (n' := 81) h dX2_tellEntry_80 rfl rfl ?_
    refine vm_iald (n' := 82) h hok hm 2 200 (by decide) dX2_tellEntry_81 rfl (by omega) (by decide) (fun g81 => ?_)
    refine v_iret h hq dX2_tellEntry_82 (Nat.le_refl _) (Nat.le_refl _) (ret_mi hm ?_)
    subst s1; exact ⟨by rw [if_pos (by decide), q2]; simp [tellE, lch, hsub], rfl⟩
  · refine v_aload_n (n' := 84) h dX2_tellEntry_83 rfl rfl ?_
    refine vm_geta (n' := 87) h 3 (by decide) q940 dX2_tellEntry_84 rfl ?_
    refine v_iload_n (n' := 88) h dX2_tellEntry_87 rfl rfl ?_
    refine vm_iald (n' := 89) h hok hm 3 200 (by decide) dX2_tellEntry_88 rfl (by omega) (by decide) (fun g88 => ?_)
    refine v_iret h hq dX2_tellEntry_89 (Nat.le_refl _) (Nat.le_refl _) (ret_mi hm ?_)
    subst s1; exact ⟨by rw [if_pos (by decide), q3]; simp [tellE, rch, hsub], rfl⟩
  · refine v_aload_n (n' := 91) h dX2_tellEntry_90 rfl rfl ?_
    refine vm_geta (n' := 94) h 4 (by decide) q941 dX2_tellEntry_91 rfl ?_
    refine v_iload_n (n' := 95) h dX2_tellEntry_94 rfl rfl ?_
    refine vm_iald (n' := 96) h hok hm 4 200 (by decide) dX2_tellEntry_95 rfl (by omega) (by decide) (fun g95 => ?_)
    refine v_iret h hq dX2_tellEntry_96 (Nat.le_refl _) (Nat.le_refl _) (ret_mi hm ?_)
    subst s1; exact ⟨by rw [if_pos (by decide), q4]; rfl, rfl⟩
  · refine v_aload_n (n' := 98) h dX2_tellEntry_97 rfl rfl ?_
    refine v_iload_n (n' := 99) h dX2_tellEntry_98 rfl rfl ?_
    refine vm_callI (n' := 102) h hok hm (m_lessMany _ _ hT k (by omega)) rfl (lw_V q1225 q1227 qs63 q87 q1228) hdX2_lessMany (by decide) ⟨Nat.zero_le _, Nat.zero_le _⟩ (Nat.le_of_ble_eq_true rfl) dX2_tellEntry_99 rfl rfl (fun z99 s99 p99 m99 => ?_)
    obtain ⟨ez99, fz99⟩ := p99
    have ez99 := ez99.symm
    have fz99 := fz99.symm
    subst ez99 fz99
    refine v_iret h hq dX2_tellEntry_102 (Nat.le_refl _) (Nat.le_refl _) (ret_mi m99 ?_)
    subst s1; exact ⟨by rw [if_pos (by decide)]; rfl, rfl⟩
  · refine v_bipush (n' := 105) h dX2_tellEntry_103 rfl (by decide) ?_
    refine v_iret h hq dX2_tellEntry_105 (Nat.le_refl _) (Nat.le_refl _) (ret_mi hm ?_)
    exact ⟨by rw [if_neg (by omega)], rfl⟩
theorem m_entry (σ : MS) (s : SS) (n : Int) (hR : MRel σ s) (hI : SInv s n) (key what : Int) (hk : -2147483648 ≤ key ∧ key ≤ 2147483647) (hw : -2147483648 ≤ what ∧ what ≤ 2147483647) : MCi yX2_entry cX2_entry 3 (some .int) 4 [.int (iI key), .int (iI what)] σ (fun z σ' => z = oEntry s key what ∧ σ' = σ) := by
  intro ad hok hm
  refine Ct.of (by decide) (EL.c1 rfl (EL.c1 rfl (EL.c1 rfl EL.n0))) (fun Γ h hq hnm => ?_)
  refine v_aload_n (n' := 1) h dX2_entry_0 rfl rfl ?_
  refine v_iload_n (n' := 2) h dX2_entry_1 rfl rfl ?_
  refine vm_callI (n' := 5) h hok hm (m_isThere _ _ _ hR hI key hk) rfl (lw_V q1212 q1214 qs60 q87 q1215) hdX2_isThere (by decide) ⟨Nat.zero_le _, Nat.zero_le _⟩ (Nat.le_of_ble_eq_true rfl) dX2_entry_2 rfl rfl (fun z2 s2 p2 m2 => ?_)
  obtain ⟨ez2, fz2⟩ := p2
  have ez2 := ez2.symm
  have fz2 := fz2.symm
  subst ez2 fz2
  refine v_bif_eq (n' := 8) (tgt := 17) h dX2_entry_5 rfl rfl (fun c5 => ?_) (fun c5 => ?_)
  · refine v_bipush (n' := 19) h dX2_entry_17 rfl (by decide) ?_
    refine v_iret h hq dX2_entry_19 (Nat.le_refl _) (Nat.le_refl _) (ret_mi m2 ?_)
    exact ⟨by unfold oEntry; rw [if_neg c5], rfl⟩
  · have ek : key = ((key.toNat : Nat) : Int) := by omega
    rw [ek]
    refine v_aload_n (n' := 9) h dX2_entry_8 rfl rfl ?_
    refine v_iload_n (n' := 10) h dX2_entry_9 rfl rfl ?_
    refine v_iload_n (n' := 11) h dX2_entry_10 rfl rfl ?_
    refine vm_callI (n' := 14) h hok m2 (m_tellEntry _ _ _ hR hI _ c5.2 what hw) rfl (lw_V q1221 q1223 qs62 q87 q1224) hdX2_tellEntry (by decide) ⟨Nat.zero_le _, Nat.zero_le _⟩ (Nat.le_of_ble_eq_true rfl) dX2_entry_11 rfl rfl (fun z11 s11 p11 m11 => ?_)
    obtain ⟨ez11, fz11⟩ := p11
    have ez11 := ez11.symm
    have fz11 := fz11.symm
    subst ez11 fz11
    refine v_goto (tgt := 19) h dX2_entry_14 rfl ?_
    refine v_iret h hq dX2_entry_19 (Nat.le_refl _) (Nat.le_refl _) (ret_mi m11 ?_)
    exact ⟨by unfold oEntry; rw [if_pos c5], rfl⟩
theorem m_as (σ : MS) (s : SS) (n : Int) (hR : MRel σ s) (hI : SInv s n) (key kind : Int) (hk : -2147483648 ≤ key ∧ key ≤ 2147483647) (hw : -2147483648 ≤ kind ∧ kind ≤ 2147483647) : MCi yX2_as cX2_as 4 (some .int) 3 [.int (iI key), .int (iI kind)] σ (fun z σ' => z = oAs s key kind ∧ σ' = σ) := by
  intro ad hok hm
  refine Ct.of (by decide) (EL.c1 rfl (EL.c1 rfl (EL.c1 rfl (EL.nn EL.n0)))) (fun Γ h hq hnm => ?_)
  refine v_aload_n (n' := 1) h dX2_as_0 rfl rfl ?_
  refine v_iload_n (n' := 2) h dX2_as_1 rfl rfl ?_
  refine vm_callI (n' := 5) h hok hm (m_isThere _ _ _ hR hI key hk) rfl (lw_V q1212 q1214 qs60 q87 q1215) hdX2_isThere (by decide) ⟨Nat.zero_le _, Nat.zero_le _⟩ (Nat.le_of_ble_eq_true rfl) dX2_as_2 rfl rfl (fun z2 s2 p2 m2 => ?_)
  obtain ⟨ez2, fz2⟩ := p2
  have ez2 := ez2.symm
  have fz2 := fz2.symm
  subst ez2 fz2
  refine v_bif_ne (n' := 8) (tgt := 11) h dX2_as_5 rfl rfl (fun c5 => ?_) (fun c5 => ?_)
  · have hk100 := hR.2.2.2.2.2.2.1.1.1.2.2.2.2.1 _ c5.2
    obtain ⟨kv1, -⟩ := hR.2.2.2.2.2.2.1.2.1 _ c5.2
    rw [show ((key.toNat : Nat) : Int) = key by omega] at kv1
    refine v_iload_n (n' := 12) h dX2_as_11 rfl rfl ?_
    refine v_i2l (n' := 13) h dX2_as_12 rfl (by omega) ?_
    refine v_lconst (n' := 14) (y := 0) h dX2_as_13 rfl rfl ?_
    refine v_ldc2 (n' := 17) (z := 4) h dX2_as_14 rfl q1233 (by decide) ?_
    refine vs_callI (n' := 20) h (m_in _ _ _ (by omega) (by omega) (by omega)) (lw_S q1093 q1094 q87 q1095) hdX2_in (by decide) ⟨Nat.zero_le _, Nat.zero_le _⟩ (Nat.le_of_ble_eq_true rfl) dX2_as_17 rfl rfl (fun z17 p17 => ?_)
    have p17 := p17.symm
    subst p17
    refine v_bif_ne (n' := 23) (tgt := 26) h dX2_as_20 rfl rfl (fun c20 => ?_) (fun c20 => ?_)
    · refine v_iload_n (n' := 27) h dX2_as_26 rfl rfl ?_
      refine v_if_eq (n' := 30) (tgt := 55) h dX2_as_27 rfl rfl (by omega) (fun c27 => ?_) (fun c27 => ?_)
      · refine v_iconst (n' := 56) h dX2_as_55 rfl ?_
        refine v_goto (tgt := 60) h dX2_as_56 rfl ?_
        refine v_istore3 (n' := 61) h dX2_as_60 rfl rfl ?_
        refine v_iload_n (n' := 62) h dX2_as_61 rfl rfl ?_
        refine v_if_eq (n' := 65) (tgt := 69) h dX2_as_62 rfl rfl (by omega) (fun c62 => ?_) (fun c62 => ?_)
        · exact absurd c62 (by decide)
        · refine v_iload_n (n' := 66) h dX2_as_65 rfl rfl ?_
          refine v_goto (tgt := 70) h dX2_as_66 rfl ?_
          refine v_iret h hq dX2_as_70 (Nat.le_refl _) (Nat.le_refl _) (ret_mi m2 ?_)
          exact ⟨by unfold oAs; rw [if_pos c5, if_pos c20, if_pos (Or.inl c27)], rfl⟩
      · refine v_iload_n (n' := 31) h dX2_as_30 rfl rfl ?_
        refine v_aload_n (n' := 32) h dX2_as_31 rfl rfl ?_
        refine vm_geta (n' := 35) h 12 (by decide) q949 dX2_as_32 rfl ?_
        refine v_iload_n (n' := 36) h dX2_as_35 rfl rfl ?_
        refine vm_iald (n' := 37) h hok m2 12 100 (by decide) dX2_as_36 rfl (by omega) (by decide) (fun g36 => ?_)
        refine v_icmp_eq (n' := 40) (tgt := 55) h dX2_as_37 rfl rfl (by omega) (by omega) (fun c37 => ?_) (fun c37 => ?_)
        · refine v_iconst (n' := 56) h dX2_as_55 rfl ?_
          refine v_goto (tgt := 60) h dX2_as_56 rfl ?_
          refine v_istore3 (n' := 61) h dX2_as_60 rfl rfl ?_
          refine v_iload_n (n' := 62) h dX2_as_61 rfl rfl ?_
          refine v_if_eq (n' := 65) (tgt := 69) h dX2_as_62 rfl rfl (by omega) (fun c62 => ?_) (fun c62 => ?_)
          · exact absurd c62 (by decide)
          · refine v_iload_n (n' := 66) h dX2_as_65 rfl rfl ?_
            refine v_goto (tgt := 70) h dX2_as_66 rfl ?_
            refine v_iret h hq dX2_as_70 (Nat.le_refl _) (Nat.le_refl _) (ret_mi m2 ?_)
            exact ⟨by unfold oAs; rw [if_pos c5, if_pos c20, if_pos (Or.inr (Or.inl (by omega)))], rfl⟩
        · refine v_iload_n (n' := 41) h dX2_as_40 rfl rfl ?_
          refine v_iconst (n' := 42) h dX2_as_41 rfl ?_
          refine v_icmp_ne (n' := 45) (tgt := 59) h dX2_as_42 rfl rfl (by omega) (by omega) (fun c42 => ?_) (fun c42 => ?_)
          · refine v_iconst (n' := 60) h dX2_as_59 rfl ?_
            refine v_istore3 (n' := 61) h dX2_as_60 rfl rfl ?_
            refine v_iload_n (n' := 62) h dX2_as_61 rfl rfl ?_
            refine v_if_eq (n' := 65) (tgt := 69) h dX2_as_62 rfl rfl (by omega) (fun c62 => ?_) (fun c62 => ?_)
            · refine v_iconst (n' := 70) h dX2_as_69 rfl ?_
              refine v_iret h hq dX2_as_70 (Nat.le_refl _) (Nat.le_refl _) (ret_mi m2 ?_)
              exact ⟨by unfold oAs; rw [if_pos c5, if_pos c20, if_neg (by omega)], rfl⟩
            · exact absurd rfl c62
          · refine v_aload_n (n' := 46) h dX2_as_45 rfl rfl ?_
            refine vm_geta (n' := 49) h 12 (by decide) q949 dX2_as_46 rfl ?_
            refine v_iload_n (n' := 50) h dX2_as_49 rfl rfl ?_
            refine vm_iald (n' := 51) h hok m2 12 100 (by decide) dX2_as_50 rfl (by omega) (by decide) (fun g50 => ?_)
            refine v_iconst (n' := 52) h dX2_as_51 rfl ?_
            refine v_icmp_ne (n' := 55) (tgt := 59) h dX2_as_52 rfl rfl (by omega) (by omega) (fun c52 => ?_) (fun c52 => ?_)
            · refine v_iconst (n' := 60) h dX2_as_59 rfl ?_
              refine v_istore3 (n' := 61) h dX2_as_60 rfl rfl ?_
              refine v_iload_n (n' := 62) h dX2_as_61 rfl rfl ?_
              refine v_if_eq (n' := 65) (tgt := 69) h dX2_as_62 rfl rfl (by omega) (fun c62 => ?_) (fun c62 => ?_)
              · refine v_iconst (n' := 70) h dX2_as_69 rfl ?_
                refine v_iret h hq dX2_as_70 (Nat.le_refl _) (Nat.le_refl _) (ret_mi m2 ?_)
                exact ⟨by unfold oAs; rw [if_pos c5, if_pos c20, if_neg (by omega)], rfl⟩
              · exact absurd rfl c62
            · refine v_iconst (n' := 56) h dX2_as_55 rfl ?_
              refine v_goto (tgt := 60) h dX2_as_56 rfl ?_
              refine v_istore3 (n' := 61) h dX2_as_60 rfl rfl ?_
              refine v_iload_n (n' := 62) h dX2_as_61 rfl rfl ?_
              refine v_if_eq (n' := 65) (tgt := 69) h dX2_as_62 rfl rfl (by omega) (fun c62 => ?_) (fun c62 => ?_)
              · exact absurd c62 (by decide)
              · refine v_iload_n (n' := 66) h dX2_as_65 rfl rfl ?_
                refine v_goto (tgt := 70) h dX2_as_66 rfl ?_
                refine v_iret h hq dX2_as_70 (Nat.le_refl _) (Nat.le_refl _) (ret_mi m2 ?_)
                exact ⟨by unfold oAs; rw [if_pos c5, if_pos c20, if_pos (Or.inr (Or.inr (by omega)))], rfl⟩
    · refine v_bipush (n' := 25) h dX2_as_23 rfl (by decide) ?_
      refine v_iret h hq dX2_as_25 (Nat.le_refl _) (Nat.le_refl _) (ret_mi m2 ?_)
      exact ⟨by unfold oAs; rw [if_pos c5, if_neg c20], rfl⟩
  · refine v_bipush (n' := 10) h dX2_as_8 rfl (by decide) ?_
    refine v_iret h hq dX2_as_10 (Nat.le_refl _) (Nat.le_refl _) (ret_mi m2 ?_)
    exact ⟨by unfold oAs; rw [if_neg c5], rfl⟩
theorem find_none {T : Tr} {n : Int} (h : ∀ k : Nat, k ∈ tl T → ¬ n < (k : Int)) : nxt T n = -1 := by
  unfold nxt
  have : (tl T).find? (fun x : Nat => decide (n < (x : Int))) = none := by
    rw [List.find?_eq_none]
    intro x hx
    simpa using h x hx
  rw [this]
theorem find_some {T : Tr} {n : Int} {k : Nat} (hs : Srt T) (hk : k ∈ tl T) (h1 : n < (k : Int)) (h2 : ∀ j : Nat, j < k → j ∈ tl T → ¬ n < (j : Int)) : nxt T n = (k : Int) := by
  unfold nxt
  have : (tl T).find? (fun x : Nat => decide (n < (x : Int))) = some k := by
    have hs : (tl T).Pairwise (· < ·) := hs
    revert hk h2 hs
    generalize tl T = L
    intro hk h2 hs
    induction L with
    | nil => cases hk
    | cons a L ih =>
      obtain ⟨s1, s2⟩ := List.pairwise_cons.mp hs
      rcases List.mem_cons.mp hk with rfl | hk'
      · simp only [List.find?_cons, h1, decide_true]
      · have := s1 k hk'
        have hn := h2 a this List.mem_cons_self
        simp only [List.find?_cons, hn, decide_false]
        exact ih hk' (fun j j1 j2 => h2 j j1 (List.mem_cons_of_mem _ j2)) s2
  rw [this]
theorem m_next_loop {Γ : GX} {σ : MS} {ad : Nat → Nat} {T : Tr} {num : Int} (hn : -2147483648 ≤ num ∧ num ≤ 2147483647) (hok : AdOk ad) (hm : MR σ) (hT : LR σ 0 T) (h : Ok0 cX2_next yX2_next.cls (some .int) (rmL 2) Γ) (hq : Rt (PI ad (fun z σ' => z = nxt T num ∧ σ' = σ)) 0 0 Γ) :
    ∀ (n j : Nat), j + n = 100 → (∀ i : Nat, i < j → i ∈ tl T → ¬ num < (i : Int)) → V Γ 0 0 (mH ad σ) 12 [some (.ref (ad 50)), some (.int (iI num)), some (.int (iI (j : Int)))] [] := by
  intro n
  induction n with
  | zero =>
    intro j hj hlt
    obtain rfl : j = 100 := by omega
    refine v_iload_n (n' := 13) h dX2_next_12 rfl rfl ?_
    refine v_bipush (n' := 15) h dX2_next_13 rfl (by decide) ?_
    refine v_icmp_ge (n' := 18) (tgt := 41) h dX2_next_15 rfl rfl (by omega) (by omega) (fun c15 => ?_) (fun c15 => ?_)
    · refine v_iconst (n' := 42) h dX2_next_41 rfl ?_
      refine v_iret h hq dX2_next_42 (Nat.le_refl _) (Nat.le_refl _) (ret_mi hm ?_)
      exact ⟨(find_none (fun k hk => hlt k (hT.2.2.2.2.1 k hk) hk)).symm, rfl⟩
    · exact absurd (by decide) c15
  | succ n ih =>
    intro j hj hlt
    have hth := hT.2.2.1 j (by omega)
    rw [show 100 * (0 : Int) + (j : Int) = (j : Int) by omega] at hth
    have ek : ((j + 1 : Nat) : Int) = (j : Int) + 1 := by omega
    refine v_iload_n (n' := 13) h dX2_next_12 rfl rfl ?_
    refine v_bipush (n' := 15) h dX2_next_13 rfl (by decide) ?_
    refine v_icmp_ge (n' := 18) (tgt := 41) h dX2_next_15 rfl rfl (by omega) (by omega) (fun c15 => ?_) (fun c15 => ?_)
    · exact absurd c15 (by omega)
    · refine v_aload_n (n' := 19) h dX2_next_18 rfl rfl ?_
      refine vm_geta (n' := 22) h 5 (by decide) q942 dX2_next_19 rfl ?_
      refine v_iload_n (n' := 23) h dX2_next_22 rfl rfl ?_
      refine vm_iald (n' := 24) h hok hm 5 200 (by decide) dX2_next_23 rfl (by omega) (by decide) (fun g23 => ?_)
      refine v_iconst (n' := 25) h dX2_next_24 rfl ?_
      refine v_icmp_ne (n' := 28) (tgt := 35) h dX2_next_25 rfl rfl (by omega) (by omega) (fun c25 => ?_) (fun c25 => ?_)
      · refine v_iinc2 (n' := 38) h dX2_next_35 rfl rfl ?_
        refine v_goto (tgt := 12) h dX2_next_38 rfl ?_
        rw [← ek]
        refine ih (j + 1) (by omega) (fun i i1 i2 => ?_)
        by_cases e : i = j
        · rw [e] at i2; rw [if_pos i2] at hth; exact absurd hth c25
        · exact hlt i (by omega) i2
      · refine v_iload_n (n' := 29) h dX2_next_28 rfl rfl ?_
        refine v_iload_n (n' := 30) h dX2_next_29 rfl rfl ?_
        refine v_icmp_le (n' := 33) (tgt := 35) h dX2_next_30 rfl rfl (by omega) (by omega) (fun c30 => ?_) (fun c30 => ?_)
        · refine v_iinc2 (n' := 38) h dX2_next_35 rfl rfl ?_
          refine v_goto (tgt := 12) h dX2_next_38 rfl ?_
          rw [← ek]
          refine ih (j + 1) (by omega) (fun i i1 i2 => ?_)
          by_cases e : i = j
          · rw [e]; omega
          · exact hlt i (by omega) i2
        · refine v_iload_n (n' := 34) h dX2_next_33 rfl rfl ?_
          refine v_iret h hq dX2_next_34 (Nat.le_refl _) (Nat.le_refl _) (ret_mi hm ?_)
          have hjT : j ∈ tl T := Classical.byContradiction (fun z => by rw [if_neg z] at hth; omega)
          exact ⟨(find_some hT.2.2.2.1 hjT (by omega) hlt).symm, rfl⟩
theorem m_next (σ : MS) (s : SS) (n : Int) (hR : MRel σ s) (hI : SInv s n) (num : Int) (hn : -2147483648 ≤ num ∧ num ≤ 2147483647) : MCi yX2_next cX2_next 3 (some .int) 2 [.int (iI num)] σ (fun z σ' => z = oNext s num ∧ σ' = σ) := by
  intro ad hok hm
  have hT := hR.2.2.2.2.2.2.1.1.1
  refine Ct.of (by decide) (EL.c1 rfl (EL.c1 rfl (EL.nn EL.n0))) (fun Γ h hq hnm => ?_)
  refine v_aload_n (n' := 1) h dX2_next_0 rfl rfl ?_
  refine vm_callI (n' := 4) h hok hm (m_lacks _ _ _ hR hI) rfl (lw_V q1216 q1218 qs61 q87 q1219) hdX2_lacks (by decide) ⟨Nat.zero_le _, Nat.zero_le _⟩ (Nat.le_of_ble_eq_true rfl) dX2_next_1 rfl rfl (fun z1 s1 p1 m1 => ?_)
  obtain ⟨ez1, fz1⟩ := p1
  have ez1 := ez1.symm
  have fz1 := fz1.symm
  subst ez1 fz1
  refine v_bif_eq (n' := 7) (tgt := 10) h dX2_next_4 rfl rfl (fun c4 => ?_) (fun c4 => ?_)
  · refine v_iconst (n' := 11) h dX2_next_10 rfl ?_
    refine v_istore2 (n' := 12) h dX2_next_11 rfl rfl ?_
    have e : oNext s num = nxt (sC s).1.1 num := by unfold oNext; rw [if_neg c4]
    rw [e] at hq
    exact m_next_loop hn hok hm hT h hq 100 0 (by omega) (fun i i1 _ => by omega)
  · refine v_bipush (n' := 9) h dX2_next_7 rfl (by decide) ?_
    refine v_iret h hq dX2_next_9 (Nat.le_refl _) (Nat.le_refl _) (ret_mi m1 ?_)
    exact ⟨by unfold oNext; rw [if_pos c4], rfl⟩
