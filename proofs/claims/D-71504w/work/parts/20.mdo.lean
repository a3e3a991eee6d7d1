/-! MODEL 10: what is done -/
set_option maxRecDepth 100000
theorem srt_rank {L : List Nat} (hs : L.Pairwise (· < ·)) : ∀ n, n < L.length → (L.filter (fun x => decide (x < L.getD n 0))).length = n := by
  induction L with
  | nil => intro n h; simp at h
  | cons a L ih =>
    intro n hn
    obtain ⟨s1, s2⟩ := List.pairwise_cons.mp hs
    cases n with
    | zero =>
      have e : (a :: L).getD 0 0 = a := rfl
      rw [e]
      have : (a :: L).filter (fun x => decide (x < a)) = [] := by
        rw [List.filter_eq_nil_iff]
        intro x hx
        rcases List.mem_cons.mp hx with rfl | hx
        · simp
        · have := s1 x hx; simp; omega
      rw [this]; rfl
    | succ n =>
      have e : (a :: L).getD (n + 1) 0 = L.getD n 0 := rfl
      have hn' : n < L.length := by simpa using hn
      have hm := s1 _ (getD_mem hn')
      rw [e, List.filter_cons_of_pos (by simpa using hm), List.length_cons, ih s2 n hn']
theorem m_at_loop {Γ : GX} {σ : MS} {ad : Nat → Nat} {T : Tr} {num : Nat} (hn : num < tz T) (hok : AdOk ad) (hm : MR σ) (hT : LR σ 0 T) (h : Ok0 cX2_at yX2_at.cls (some .int) (rmL 2) Γ) (hq : Rt (PI ad (fun z σ' => z = (((tl T).getD num 0 : Nat) : Int) ∧ σ' = σ)) 0 0 Γ) :
    ∀ (n j : Nat), j + n = (tl T).getD num 0 → V Γ 0 0 (mH ad σ) 30 [some (.ref (ad 50)), some (.int (iI (num : Int))), some (.int (iI (j : Int)))] [] := by
  have hlen := tz_len T
  have hxm : (tl T).getD num 0 ∈ tl T := getD_mem (by omega)
  have hx100 := hT.2.2.2.2.1 _ hxm
  have hz := hT.2.2.2.2.2
  have rank := srt_rank hT.2.2.2.1
  have rk1 := rank num (by omega)
  intro n
  induction n with
  | zero =>
    intro j hj
    have ej : j = (tl T).getD num 0 := by omega
    have hjm : j ∈ tl T := by rw [ej]; exact hxm
    have hj100 : j < 100 := by omega
    have hth := hT.2.2.1 j hj100
    rw [show 100 * (0 : Int) + (j : Int) = (j : Int) by omega, if_pos hjm] at hth
    have hl : lessN T j = (num : Int) := by unfold lessN; rw [ej, rk1]
    refine v_aload_n (n' := 31) h dX2_at_30 rfl rfl ?_
    refine vm_geta (n' := 34) h 5 (by decide) q942 dX2_at_31 rfl ?_
    refine v_iload_n (n' := 35) h dX2_at_34 rfl rfl ?_
    refine vm_iald (n' := 36) h hok hm 5 200 (by decide) dX2_at_35 rfl (by omega) (by decide) (fun g35 => ?_)
    refine v_if_eq (n' := 39) (tgt := 48) h dX2_at_36 rfl rfl (by omega) (fun c36 => ?_) (fun c36 => ?_)
    · exact absurd c36 (by omega)
    · refine v_aload_n (n' := 40) h dX2_at_39 rfl rfl ?_
      refine v_iload_n (n' := 41) h dX2_at_40 rfl rfl ?_
      refine vm_callI (n' := 44) h hok hm (m_lessMany _ _ hT j (by omega)) rfl (lw_V q1225 q1227 qs63 q87 q1228) hdX2_lessMany (by decide) ⟨Nat.zero_le _, Nat.zero_le _⟩ (Nat.le_of_ble_eq_true rfl) dX2_at_41 rfl rfl (fun z41 s41 p41 m41 => ?_)
      obtain ⟨ez41, fz41⟩ := p41
      have ez41 := ez41.symm
      have fz41 := fz41.symm
      subst ez41 fz41
      rw [hl]
      refine v_iload_n (n' := 45) h dX2_at_44 rfl rfl ?_
      refine v_icmp_ge (n' := 48) (tgt := 54) h dX2_at_45 rfl rfl (by omega) (by omega) (fun c45 => ?_) (fun c45 => ?_)
      · refine v_iload_n (n' := 55) h dX2_at_54 rfl rfl ?_
        refine v_iret h hq dX2_at_55 (Nat.le_refl _) (Nat.le_refl _) (ret_mi m41 ?_)
        exact ⟨by rw [ej], rfl⟩
      · exact absurd (Int.le_refl _) c45
  | succ n ih =>
    intro j hj
    have hj100 : j < 100 := by omega
    have hth := hT.2.2.1 j hj100
    rw [show 100 * (0 : Int) + (j : Int) = (j : Int) by omega] at hth
    have ih := ih (j + 1) (by omega)
    have ek : ((j + 1 : Nat) : Int) = (j : Int) + 1 := by omega
    rw [ek] at ih
    have hll : 0 ≤ lessN T j ∧ lessN T j ≤ 40 := by
      have := less_len (T := T) (k := j)
      unfold less at this
      unfold lessN
      omega
    refine v_aload_n (n' := 31) h dX2_at_30 rfl rfl ?_
    refine vm_geta (n' := 34) h 5 (by decide) q942 dX2_at_31 rfl ?_
    refine v_iload_n (n' := 35) h dX2_at_34 rfl rfl ?_
    refine vm_iald (n' := 36) h hok hm 5 200 (by decide) dX2_at_35 rfl (by omega) (by decide) (fun g35 => ?_)
    refine v_if_eq (n' := 39) (tgt := 48) h dX2_at_36 rfl rfl (by omega) (fun c36 => ?_) (fun c36 => ?_)
    · refine v_iinc2 (n' := 51) h dX2_at_48 rfl rfl ?_
      refine v_goto (tgt := 30) h dX2_at_51 rfl ?_
      exact ih
    · refine v_aload_n (n' := 40) h dX2_at_39 rfl rfl ?_
      refine v_iload_n (n' := 41) h dX2_at_40 rfl rfl ?_
      refine vm_callI (n' := 44) h hok hm (m_lessMany _ _ hT j (by omega)) rfl (lw_V q1225 q1227 qs63 q87 q1228) hdX2_lessMany (by decide) ⟨Nat.zero_le _, Nat.zero_le _⟩ (Nat.le_of_ble_eq_true rfl) dX2_at_41 rfl rfl (fun z41 s41 p41 m41 => ?_)
      obtain ⟨ez41, fz41⟩ := p41
      have ez41 := ez41.symm
      have fz41 := fz41.symm
      subst ez41 fz41
      refine v_iload_n (n' := 45) h dX2_at_44 rfl rfl ?_
      refine v_icmp_ge (n' := 48) (tgt := 54) h dX2_at_45 rfl rfl (by omega) (by omega) (fun c45 => ?_) (fun c45 => ?_)
      · exfalso
        have hjm : j ∈ tl T := Classical.byContradiction (fun z => by rw [if_neg z] at hth; exact c36 hth)
        obtain ⟨m, m1⟩ := List.getElem?_of_mem hjm
        have m2 := (List.getElem?_eq_some_iff.mp m1).1
        have m3 : (tl T).getD m 0 = j := by simp [List.getD, m1]
        have r2 := rank m m2
        rw [m3] at r2
        have hl : lessN T j = (m : Int) := by unfold lessN; rw [r2]
        have hmn : m < num := by
          rcases Nat.lt_or_ge m num with c | c
          · exact c
          · exfalso
            rcases Nat.lt_or_ge num m with c2 | c2
            · have hs : (tl T).Pairwise (· < ·) := hT.2.2.2.1
              rw [List.pairwise_iff_getElem] at hs
              have := hs num m (by omega) m2 c2
              have g1 : (tl T).getD num 0 = (tl T)[num] := by simp [List.getD, show num < (tl T).length by omega]
              have g2 : (tl T).getD m 0 = (tl T)[m] := by simp [List.getD, m2]
              omega
            · have : m = num := by omega
              subst this
              omega
        omega
      · refine v_iinc2 (n' := 51) h dX2_at_48 rfl rfl ?_
        refine v_goto (tgt := 30) h dX2_at_51 rfl ?_
        exact ih
theorem m_at (σ : MS) (s : SS) (n : Int) (hR : MRel σ s) (hI : SInv s n) (num : Int) (hn : -2147483648 ≤ num ∧ num ≤ 2147483647) : MCi yX2_at cX2_at 3 (some .int) 2 [.int (iI num)] σ (fun z σ' => z = oAt s num ∧ σ' = σ) := by
  intro ad hok hm
  have hT := hR.2.2.2.2.2.2.1.1.1
  have h7 := hR.2.2.2.2.2.2.1.1.2.1
  have hz := hT.2.2.2.2.2
  refine Ct.of (by decide) (EL.c1 rfl (EL.c1 rfl (EL.nn EL.n0))) (fun Γ h hq hnm => ?_)
  refine v_aload_n (n' := 1) h dX2_at_0 rfl rfl ?_
  refine vm_callI (n' := 4) h hok hm (m_lacks _ _ _ hR hI) rfl (lw_V q1216 q1218 qs61 q87 q1219) hdX2_lacks (by decide) ⟨Nat.zero_le _, Nat.zero_le _⟩ (Nat.le_of_ble_eq_true rfl) dX2_at_1 rfl rfl (fun z1 s1 p1 m1 => ?_)
  obtain ⟨ez1, fz1⟩ := p1
  have ez1 := ez1.symm
  have fz1 := fz1.symm
  subst ez1 fz1
  refine v_bif_ne (n' := 7) (tgt := 25) h dX2_at_4 rfl rfl (fun c4 => ?_) (fun c4 => ?_)
  · refine v_bipush (n' := 27) h dX2_at_25 rfl (by decide) ?_
    refine v_iret h hq dX2_at_27 (Nat.le_refl _) (Nat.le_refl _) (ret_mi m1 ?_)
    refine ⟨?_, rfl⟩
    unfold oAt
    rw [if_neg]
    intro z
    rcases hI.2.2.2.1 with ⟨a1, a2, a3, -⟩ | ⟨a1, -⟩
    · rw [← tz_len, a3] at z; simp at z; omega
    · omega
  · refine v_iload_n (n' := 8) h dX2_at_7 rfl rfl ?_
    refine v_i2l (n' := 9) h dX2_at_8 rfl (by omega) ?_
    refine v_lconst (n' := 10) (y := 0) h dX2_at_9 rfl rfl ?_
    refine v_aload_n (n' := 11) h dX2_at_10 rfl rfl ?_
    refine vm_geta (n' := 14) h 7 (by decide) q944 dX2_at_11 rfl ?_
    refine v_iconst (n' := 15) h dX2_at_14 rfl ?_
    refine vm_iald (n' := 16) h hok m1 7 2 (by decide) dX2_at_15 rfl (by omega) (by decide) (fun g15 => ?_)
    rw [h7] at g15 ⊢
    refine v_iconst (n' := 17) h dX2_at_16 rfl ?_
    refine v_isub (n' := 18) h dX2_at_17 rfl ?_
    refine v_i2l (n' := 19) h dX2_at_18 rfl (by omega) ?_
    refine vs_callI (n' := 22) h (m_in _ _ _ (by omega) (by omega) (by omega)) (lw_S q1093 q1094 q87 q1095) hdX2_in (by decide) ⟨Nat.zero_le _, Nat.zero_le _⟩ (Nat.le_of_ble_eq_true rfl) dX2_at_19 rfl rfl (fun z19 p19 => ?_)
    have p19 := p19.symm
    subst p19
    refine v_bif_ne (n' := 25) (tgt := 28) h dX2_at_22 rfl rfl (fun c22 => ?_) (fun c22 => ?_)
    · refine v_iconst (n' := 29) h dX2_at_28 rfl ?_
      refine v_istore2 (n' := 30) h dX2_at_29 rfl rfl ?_
      obtain ⟨m, rfl⟩ : ∃ m : Nat, num = (m : Int) := ⟨num.toNat, by omega⟩
      have e : oAt s (m : Int) = (((tl (sC s).1.1).getD m 0 : Nat) : Int) := by unfold oAt; rw [if_pos (by omega), Int.toNat_natCast]
      rw [e] at hq
      exact m_at_loop (by omega) hok hm hT h hq _ 0 (Nat.zero_add _)
    · refine v_bipush (n' := 27) h dX2_at_25 rfl (by decide) ?_
      refine v_iret h hq dX2_at_27 (Nat.le_refl _) (Nat.le_refl _) (ret_mi m1 ?_)
      refine ⟨?_, rfl⟩
      unfold oAt
      rw [if_neg (by omega)]
/-! the log -/
def lgw (lg : List Int) (x : Int) : List Int := if lg.length < 60 then lg ++ [x] else lg
def wrS (σ : MS) (so : Int) : MS := if σ.1 22 < 60 then setI (setA σ 21 (σ.1 22) so) 22 (σ.1 22 + 1) else σ
theorem m_write (σ : MS) (so : Int) (hs : -2147483648 ≤ so ∧ so ≤ 2147483647) (h22 : 0 ≤ σ.1 22 ∧ σ.1 22 ≤ 60) : MCv yX2_write cX2_write 2 none 1 [.int (iI so)] σ (fun σ' => σ' = wrS σ so) := by
  intro ad hok hm
  refine Ct.of (by decide) (EL.c1 rfl (EL.c1 rfl EL.n0)) (fun Γ h hq hnm => ?_)
  refine v_aload_n (n' := 1) h dX2_write_0 rfl rfl ?_
  refine vm_geti (n' := 4) h hm 22 (by decide) q959 dX2_write_1 rfl (fun g1 => ?_)
  refine v_bipush (n' := 6) h dX2_write_4 rfl (by decide) ?_
  refine v_icmp_ge (n' := 9) (tgt := 29) h dX2_write_6 rfl rfl (by omega) (by omega) (fun c6 => ?_) (fun c6 => ?_)
  · refine v_vret h hq dX2_write_29 (Nat.le_refl _) (Nat.le_refl _) (ret_mv hm ?_)
    unfold wrS; rw [if_neg (by omega)]
  · refine v_aload_n (n' := 10) h dX2_write_9 rfl rfl ?_
    refine vm_geta (n' := 13) h 21 (by decide) q958 dX2_write_10 rfl ?_
    refine v_aload_n (n' := 14) h dX2_write_13 rfl rfl ?_
    refine vm_geti (n' := 17) h hm 22 (by decide) q959 dX2_write_14 rfl (fun g14 => ?_)
    refine v_iload_n (n' := 18) h dX2_write_17 rfl rfl ?_
    refine vm_iast (n' := 19) h hok hm 21 60 (by decide) dX2_write_18 rfl (by omega) (by decide) (by omega) (fun m18 => ?_)
    refine v_aload_n (n' := 20) h dX2_write_19 rfl rfl ?_
    refine v_dup (n' := 21) h dX2_write_20 rfl rfl ?_
    refine vm_geti (n' := 24) h m18 22 (by decide) q959 dX2_write_21 rfl (fun g21 => ?_)
    refine v_iconst (n' := 25) h dX2_write_24 rfl ?_
    refine v_iadd (n' := 26) h dX2_write_25 rfl ?_
    refine vm_puti (n' := 29) h m18 22 (by decide) q959 dX2_write_26 rfl (by rw [setA_1] at *; omega) (fun m26 => ?_)
    refine v_vret h hq dX2_write_29 (Nat.le_refl _) (Nat.le_refl _) (ret_mv m26 ?_)
    unfold wrS; rw [if_pos (by omega)]; rfl
theorem wrS_log {σ : MS} {lg : List Int} {so : Int} (h : LogR σ lg) : LogR (wrS σ so) (lgw lg so) := by
  obtain ⟨h1, h2, h3⟩ := h
  unfold wrS lgw
  by_cases c : lg.length < 60
  · rw [if_pos c, if_pos (by omega)]
    refine ⟨by rw [setI_1s, h1]; simp, by simp; omega, fun i hi => ?_⟩
    rw [setI_2, setA_2]
    by_cases e : i = lg.length
    · subst e
      rw [if_pos ⟨rfl, by omega⟩]
      simp
    · have hi2 : i < lg.length := by simp at hi; omega
      rw [if_neg (by omega), h3 i hi2]
      simp [List.getD, List.getElem?_append_left hi2]
  · rw [if_neg c, if_neg (by omega)]
    exact ⟨h1, h2, h3⟩
theorem wrS_2 {σ : MS} {so : Int} {f : Nat} {i : Int} (hf : f ≠ 21) : (wrS σ so).2 f i = σ.2 f i := by
  unfold wrS
  split
  · rw [setI_2, setA_2o hf]
  · rfl
theorem wrS_1 {σ : MS} {so : Int} {f : Nat} (hf : f ≠ 22) : (wrS σ so).1 f = σ.1 f := by
  unfold wrS
  split
  · rw [setI_1n hf]; rfl
  · rfl
/-- what the doings of the first tree leave as it was -/
def Fpu (σ σ' : MS) : Prop := (∀ f, f ≠ 9 → f ≠ 19 → f ≠ 20 → f ≠ 22 → σ'.1 f = σ.1 f) ∧ ∀ f i, ¬ wr 0 f i → f ≠ 12 → f ≠ 13 → f ≠ 21 → σ'.2 f i = σ.2 f i
theorem Fpu.refl {σ : MS} : Fpu σ σ := ⟨fun _ _ _ _ _ => rfl, fun _ _ _ _ _ _ => rfl⟩
theorem Fpu.trans {a b c : MS} (h1 : Fpu a b) (h2 : Fpu b c) : Fpu a c := ⟨fun f a1 a2 a3 a4 => (h2.1 f a1 a2 a3 a4).trans (h1.1 f a1 a2 a3 a4), fun f i a1 a2 a3 a4 => (h2.2 f i a1 a2 a3 a4).trans (h1.2 f i a1 a2 a3 a4)⟩
theorem Fr.pu {σ σ' : MS} (h : Fr 0 σ σ') : Fpu σ σ' := ⟨fun f a1 a2 a3 _ => h.1 f a1 (Or.inl ⟨a2, a3⟩), fun f i a1 _ _ _ => h.2 f i a1⟩
theorem Fpu.sA {σ : MS} {f : Nat} {i v : Int} (h : f = 12 ∨ f = 13 ∨ f = 21) : Fpu σ (setA σ f i v) := ⟨fun _ _ _ _ _ => rfl, fun g j _ e1 e2 e3 => setA_2o (by omega)⟩
theorem Fpu.wrS {σ : MS} {so : Int} : Fpu σ (wrS σ so) := by
  unfold Jvm.Pilot.CCreditShelfLaw_law_r5313_9dd488.wrS
  split
  · exact ⟨fun f a1 a2 a3 a4 => by rw [setI_1n a4]; rfl, fun f i _ _ _ a => by rw [setI_2, setA_2o a]⟩
  · exact Fpu.refl
def setC (s : SS) (h : Shf) : SS := (s.1, s.2.1, s.2.2.1, s.2.2.2.1, s.2.2.2.2.1, s.2.2.2.2.2.1, h, s.2.2.2.2.2.2.2.1, s.2.2.2.2.2.2.2.2)
theorem Fpu.MRel {σ σ' : MS} {s : SS} {h : Shf} (hF : Fpu σ σ') (hs : MRel σ s) (hh : ShfR σ' h) : MRel σ' (setC s h) := by
  obtain ⟨h0, h1, h2, h3, h4, h5, h6, h7, h8⟩ := hs
  exact ⟨fun i => by rw [hF.2 0 i (by unfold wr; omega) (by decide) (by decide) (by decide)]; exact h0 i, by rw [hF.1 1 (by decide) (by decide) (by decide) (by decide)]; exact h1, by rw [hF.1 23 (by decide) (by decide) (by decide) (by decide)]; exact h2, by rw [hF.1 14 (by decide) (by decide) (by decide) (by decide)]; exact h3, by rw [hF.1 15 (by decide) (by decide) (by decide) (by decide)]; exact h4, by rw [hF.1 18 (by decide) (by decide) (by decide) (by decide)]; exact h5, hh, by rw [hF.1 31 (by decide) (by decide) (by decide) (by decide)]; exact h7, fun z => ksh_cg (h8 z) (fun f i a => hF.2 f i (by unfold wr; omega) (by omega) (by omega) (by omega)) (fun f a => hF.1 f (by omega) (by omega) (by omega) (by omega))⟩
noncomputable def shPut (a b fee : Int) (h : Shf) (kind : Int) (k : Nat) (v : Int) : Shf := (teEnter a b fee h.1 k, fun x => if x = k then kind else h.2.1 x, fun x => if x = k then v else h.2.2.1 x, lgw h.2.2.2.1 (k : Int), h.2.2.2.2)
noncomputable def shTake (a b fee : Int) (h : Shf) (k : Nat) : Shf := (teLeave a b fee h.1 k, h.2.1, h.2.2.1, lgw h.2.2.2.1 (-1 - (k : Int)), h.2.2.2.2)
theorem LogR.r {σ : MS} {lg : List Int} (h : LogR σ lg) : 0 ≤ σ.1 22 ∧ σ.1 22 ≤ 60 := by
  have := h.2.1
  rw [h.1]
  omega
theorem m_putNew (σ : MS) (h0 : Shf) (hS : ShfR σ h0) (hB : TeB h0.1 1000000) (a b fee : Int) (ha : σ.1 14 = a) (hb : σ.1 15 = b) (hab : isRat a b) (hf : σ.1 18 = fee) (hf9 : 0 ≤ fee ∧ fee ≤ 9) (kind value : Int) (k : Nat) (hk : k ∉ tl h0.1.1) (hk1 : k < 100) (hz : tz h0.1.1 < 40) (hkd : 0 ≤ kind ∧ kind ≤ 4) (hv : 0 ≤ value ∧ value ≤ 999) : MCv yX2_putNew cX2_putNew 4 none 5 [.int (iI kind), .int (iI (k : Int)), .int (iI value)] σ (fun σ' => ShfR σ' (shPut a b fee h0 kind k value) ∧ σ'.1 9 = ((entR a b h0.1.1 k).2 : Int) ∧ Fpu σ σ') := by
  intro ad hok hm
  obtain ⟨s1, s2, s3, s4⟩ := hS
  have e1 : RelT (setA (setA σ 12 (k : Int) kind) 13 (k : Int) value) 0 h0.1 := s1.cg (fun f i hf => by rw [setA_2o (by omega), setA_2o (by omega)]) (fun _ => ⟨rfl, rfl⟩)
  have h19 : -100000000 ≤ σ.1 19 ∧ σ.1 19 ≤ 100000000 := by
    have := congrArg Prod.fst (s1.2.2.2.2.2 rfl)
    have hB4 := hB.2.2.2.1
    dsimp only at this
    omega
  refine Ct.of (by decide) (EL.c1 rfl (EL.c1 rfl (EL.c1 rfl (EL.c1 rfl EL.n0)))) (fun Γ h hq hnm => ?_)
  refine v_aload_n (n' := 1) h dX2_putNew_0 rfl rfl ?_
  refine vm_geta (n' := 4) h 12 (by decide) q949 dX2_putNew_1 rfl ?_
  refine v_iload_n (n' := 5) h dX2_putNew_4 rfl rfl ?_
  refine v_iload_n (n' := 6) h dX2_putNew_5 rfl rfl ?_
  refine vm_iast (n' := 7) h hok hm 12 100 (by decide) dX2_putNew_6 rfl (by omega) (by decide) (by omega) (fun m6 => ?_)
  refine v_aload_n (n' := 8) h dX2_putNew_7 rfl rfl ?_
  refine vm_geta (n' := 11) h 13 (by decide) q950 dX2_putNew_8 rfl ?_
  refine v_iload_n (n' := 12) h dX2_putNew_11 rfl rfl ?_
  refine v_iload_n (n' := 13) h dX2_putNew_12 rfl rfl ?_
  refine vm_iast (n' := 14) h hok m6 13 100 (by decide) dX2_putNew_13 rfl (by omega) (by decide) (by omega) (fun m13 => ?_)
  refine v_aload_n (n' := 15) h dX2_putNew_14 rfl rfl ?_
  refine v_iconst (n' := 16) h dX2_putNew_15 rfl ?_
  refine v_iload_n (n' := 17) h dX2_putNew_16 rfl rfl ?_
  refine vm_callV (n' := 20) h hok m13 (m_enterT _ 0 (Or.inl rfl) h0.1 e1 hB k hk hk1 hz a b h19 (by show 0 ≤ σ.1 18 ∧ σ.1 18 ≤ 9; omega) (by rw [if_pos rfl]; exact ha) (by rw [if_pos rfl]; exact hb) hab) rfl (lw_V q1148 q1150 qs45 q87 q1151) hdX2_enter (by decide) ⟨Nat.zero_le _, Nat.zero_le _⟩ (Nat.le_of_ble_eq_true rfl) dX2_putNew_17 rfl rfl (fun s17 p17 m17 => ?_)
  obtain ⟨p1, p9, pF⟩ := p17
  have l17 : LogR s17 h0.2.2.2.1 := s3.cg (fun i => by rw [pF.2 21 i (by unfold wr; omega), setA_2o (by decide), setA_2o (by decide)]) (by rw [pF.1 22 (by decide) (by decide)]; rfl)
  refine v_aload_n (n' := 21) h dX2_putNew_20 rfl rfl ?_
  refine v_iload_n (n' := 22) h dX2_putNew_21 rfl rfl ?_
  refine vm_callV (n' := 25) h hok m17 (m_write _ _ (by omega) l17.r) rfl (lw_V q1204 q1206 qs59 q87 q1207) hdX2_write (by decide) ⟨Nat.zero_le _, Nat.zero_le _⟩ (Nat.le_of_ble_eq_true rfl) dX2_putNew_22 rfl rfl (fun s22 p22 m22 => ?_)
  have p22 := p22.symm
  subst p22
  refine v_vret h hq dX2_putNew_25 (Nat.le_refl _) (Nat.le_refl _) (ret_mv m22 ?_)
  have hw := Fpu.wrS (σ := s17) (so := (k : Int))
  have w2 : ∀ f i, f ≠ 21 → (wrS s17 (k : Int)).2 f i = s17.2 f i := fun f i hf => wrS_2 hf
  have w1 : ∀ f, f ≠ 22 → (wrS s17 (k : Int)).1 f = s17.1 f := fun f hf => wrS_1 hf
  refine ⟨⟨?_, ?_, wrS_log l17, ?_⟩, by rw [w1 9 (by decide)]; exact p9, ((Fpu.sA (by decide)).trans (Fpu.sA (by decide))).trans (pF.pu.trans hw)⟩
  · have e18 : (setA (setA σ 12 (k : Int) kind) 13 (k : Int) value).1 18 = fee := hf
    rw [e18] at p1
    exact p1.cg (fun f i hf => w2 f i (by omega)) (fun _ => ⟨w1 19 (by decide), w1 20 (by decide)⟩)
  · intro x hx
    have hx : x ∈ tl (entR a b h0.1.1 k).1 := hx
    rw [entR_tl s1.1.2.2.2.1 hk, ins_mem] at hx
    rw [w2 12 _ (by decide), w2 13 _ (by decide), pF.2 12 _ (by unfold wr; omega), pF.2 13 _ (by unfold wr; omega)]
    show (setA (setA σ 12 (k : Int) kind) 13 (k : Int) value).2 12 (x : Int) = (if x = k then kind else h0.2.1 x) ∧ (setA (setA σ 12 (k : Int) kind) 13 (k : Int) value).2 13 (x : Int) = (if x = k then value else h0.2.2.1 x)
    refine ⟨?_, ?_⟩
    · rw [setA_2o (by decide), setA_2]
      by_cases c : x = k
      · subst c; rw [if_pos ⟨rfl, rfl⟩, if_pos rfl]
      · rw [if_neg (by omega), if_neg c]; exact (s2 x (hx.resolve_left c)).1
    · rw [setA_2]
      by_cases c : x = k
      · subst c; rw [if_pos ⟨rfl, rfl⟩, if_pos rfl]
      · rw [if_neg (by omega), if_neg c, setA_2o (by decide)]; exact (s2 x (hx.resolve_left c)).2
  · exact s4.cg (fun i => by rw [w2 29 i (by decide), pF.2 29 i (by unfold wr; omega), setA_2o (by decide), setA_2o (by decide)]) (by rw [w1 28 (by decide), pF.1 28 (by decide) (by decide)]; rfl)
theorem m_takeOut (σ : MS) (h0 : Shf) (hS : ShfR σ h0) (hB : TeB h0.1 1000000) (a b fee : Int) (ha : σ.1 14 = a) (hb : σ.1 15 = b) (hab : isRat a b) (hf : σ.1 18 = fee) (hf9 : 0 ≤ fee ∧ fee ≤ 9) (k : Nat) (hk : k ∈ tl h0.1.1) : MCv yX2_takeOut cX2_takeOut 2 none 6 [.int (iI (k : Int))] σ (fun σ' => ShfR σ' (shTake a b fee h0 k) ∧ Fpu σ σ' ∧ σ'.2 13 (k : Int) = σ.2 13 (k : Int)) := by
  intro ad hok hm
  obtain ⟨t1, t2, t3, t4⟩ := hS
  have h19 : -100000000 ≤ σ.1 19 ∧ σ.1 19 ≤ 100000000 := by
    have := congrArg Prod.fst (t1.2.2.2.2.2 rfl)
    have hB4 := hB.2.2.2.1
    dsimp only at this
    omega
  have hk100 := t1.1.2.2.2.2.1 k hk
  refine Ct.of (by decide) (EL.c1 rfl (EL.c1 rfl EL.n0)) (fun Γ h hq hnm => ?_)
  refine v_aload_n (n' := 1) h dX2_takeOut_0 rfl rfl ?_
  refine v_iconst (n' := 2) h dX2_takeOut_1 rfl ?_
  refine v_iload_n (n' := 3) h dX2_takeOut_2 rfl rfl ?_
  refine vm_callV (n' := 6) h hok hm (m_leaveT _ 0 (Or.inl rfl) h0.1 t1 hB k hk a b h19 (by omega) (by rw [if_pos rfl]; exact ha) (by rw [if_pos rfl]; exact hb) hab) rfl (lw_V q1255 q1257 qs65 q87 q1258) hdX2_leave (by decide) ⟨Nat.zero_le _, Nat.zero_le _⟩ (Nat.le_of_ble_eq_true rfl) dX2_takeOut_3 rfl rfl (fun s3 p3 m3 => ?_)
  obtain ⟨p1, p9, pF⟩ := p3
  have l17 : LogR s3 h0.2.2.2.1 := t3.cg (fun i => by rw [pF.2 21 i (by unfold wr; omega)]) (by rw [pF.1 22 (by decide) (by decide)])
  refine v_aload_n (n' := 7) h dX2_takeOut_6 rfl rfl ?_
  refine v_iconst (n' := 8) h dX2_takeOut_7 rfl ?_
  refine v_iload_n (n' := 9) h dX2_takeOut_8 rfl rfl ?_
  refine v_isub (n' := 10) h dX2_takeOut_9 rfl ?_
  refine vm_callV (n' := 13) h hok m3 (m_write _ _ (by omega) l17.r) rfl (lw_V q1204 q1206 qs59 q87 q1207) hdX2_write (by decide) ⟨Nat.zero_le _, Nat.zero_le _⟩ (Nat.le_of_ble_eq_true rfl) dX2_takeOut_10 rfl rfl (fun s10 p10 m10 => ?_)
  have p10 := p10.symm
  subst p10
  refine v_vret h hq dX2_takeOut_13 (Nat.le_refl _) (Nat.le_refl _) (ret_mv m10 ?_)
  have w2 : ∀ f i, f ≠ 21 → (wrS s3 (-1 - (k : Int))).2 f i = s3.2 f i := fun f i hf => wrS_2 hf
  have w1 : ∀ f, f ≠ 22 → (wrS s3 (-1 - (k : Int))).1 f = s3.1 f := fun f hf => wrS_1 hf
  rw [hf] at p1
  refine ⟨⟨p1.cg (fun f i hf => w2 f i (by omega)) (fun _ => ⟨w1 19 (by decide), w1 20 (by decide)⟩), fun x hx => ?_, wrS_log l17, t4.cg (fun i => by rw [w2 29 i (by decide), pF.2 29 i (by unfold wr; omega)]) (by rw [w1 28 (by decide), pF.1 28 (by decide) (by decide)])⟩, pF.pu.trans Fpu.wrS, by rw [w2 13 _ (by decide), pF.2 13 _ (by unfold wr; omega)]⟩
  have hx : x ∈ tl (levR a b h0.1.2.1 h0.1.1 k).1 := hx
  rw [levR_tl] at hx
  rw [w2 12 _ (by decide), w2 13 _ (by decide), pF.2 12 _ (by unfold wr; omega), pF.2 13 _ (by unfold wr; omega)]
  exact t2 x ((del_mem t1.1.2.2.2.1).mp hx).1
/-! the public doings -/
noncomputable def oPut (s : SS) (kind key v : Int) : Int × SS := if ¬ ((0 ≤ kind ∧ kind ≤ 4) ∧ (0 ≤ key ∧ key ≤ 99) ∧ (0 ≤ v ∧ v ≤ 999)) then (-102, s) else if sSh s = 0 ∨ (there s key ∧ (sC s).2.1 key.toNat = 4) then (-103, s) else if there s key then (0, setC s ((sC s).1, fun x => if x = key.toNat then kind else (sC s).2.1 x, fun x => if x = key.toNat then v else (sC s).2.2.1 x, (sC s).2.2.2.1, (sC s).2.2.2.2)) else if tz (sC s).1.1 = 40 then (-104, s) else (((entR (sA s) (sB s) (sC s).1.1 key.toNat).2 : Int), setC s (shPut (sA s) (sB s) (sF s) (sC s) kind key.toNat v))
theorem SInv.rat {s : SS} {n : Int} (h : SInv s n) (h0 : ¬ sSh s = 0) : isRat (sA s) (sB s) ∧ 0 ≤ sF s ∧ sF s ≤ 9 := by
  rcases h.2.2.2.1 with ⟨a1, -⟩ | ⟨-, a2⟩
  · exact absurd a1 h0
  · exact a2
theorem there_iff {σ : MS} {s : SS} {n : Int} (hR : MRel σ s) (hI : SInv s n) {key : Int} (hk : 0 ≤ key ∧ key ≤ 99) : σ.2 5 key = 1 ↔ there s key := by
  have h3 := hR.2.2.2.2.2.2.1.1.1.2.2.1 key.toNat (by omega)
  rw [show 100 * (0 : Int) + ((key.toNat : Nat) : Int) = key by omega] at h3
  rw [h3]
  constructor
  · intro z
    exact ⟨hk.1, Classical.byContradiction (fun c => by rw [if_neg c] at z; omega)⟩
  · intro z
    rw [if_pos z.2]
theorem MRel.kv {σ : MS} {s : SS} (hR : MRel σ s) {key : Int} (hk : there s key) : σ.2 12 key = (sC s).2.1 key.toNat ∧ σ.2 13 key = (sC s).2.2.1 key.toNat := by
  have := hR.2.2.2.2.2.2.1.2.1 _ hk.2
  rwa [show ((key.toNat : Nat) : Int) = key by have := hk.1; omega] at this
theorem m_put (σ : MS) (s : SS) (n : Int) (hR : MRel σ s) (hI : SInv s n) (kind key v : Int) (h1 : -2147483648 ≤ kind ∧ kind ≤ 2147483647) (h2 : -2147483648 ≤ key ∧ key ≤ 2147483647) (h3 : -2147483648 ≤ v ∧ v ≤ 2147483647) : MCi yX2_put cX2_put 4 (some .int) 6 [.int (iI kind), .int (iI key), .int (iI v)] σ (fun z σ' => z = (oPut s kind key v).1 ∧ MRel σ' (oPut s kind key v).2) := by
  intro ad hok hm
  refine Ct.of (by decide) (EL.c1 rfl (EL.c1 rfl (EL.c1 rfl (EL.c1 rfl EL.n0)))) (fun Γ h hq hnm => ?_)
  refine v_iload_n (n' := 1) h dX2_put_0 rfl rfl ?_
  refine v_i2l (n' := 2) h dX2_put_1 rfl (by omega) ?_
  refine v_lconst (n' := 3) (y := 0) h dX2_put_2 rfl rfl ?_
  refine v_ldc2 (n' := 6) (z := 4) h dX2_put_3 rfl q1233 (by decide) ?_
  refine vs_callI (n' := 9) h (m_in _ _ _ (by omega) (by omega) (by omega)) (lw_S q1093 q1094 q87 q1095) hdX2_in (by decide) ⟨Nat.zero_le _, Nat.zero_le _⟩ (Nat.le_of_ble_eq_true rfl) dX2_put_6 rfl rfl (fun z6 p6 => ?_)
  have p6 := p6.symm
  subst p6
  refine v_bif_eq (n' := 12) (tgt := 36) h dX2_put_9 rfl rfl (fun c9 => ?_) (fun c9 => ?_)
  · refine v_bipush (n' := 38) h dX2_put_36 rfl (by decide) ?_
    refine v_iret h hq dX2_put_38 (Nat.le_refl _) (Nat.le_refl _) (ret_mi hm ?_)
    unfold oPut; rw [if_pos (fun z => c9 z.1)]; exact ⟨rfl, hR⟩
  · refine v_iload_n (n' := 13) h dX2_put_12 rfl rfl ?_
    refine v_i2l (n' := 14) h dX2_put_13 rfl (by omega) ?_
    refine v_lconst (n' := 15) (y := 0) h dX2_put_14 rfl rfl ?_
    refine v_ldc2 (n' := 18) (z := 99) h dX2_put_15 rfl q1220 (by decide) ?_
    refine vs_callI (n' := 21) h (m_in _ _ _ (by omega) (by omega) (by omega)) (lw_S q1093 q1094 q87 q1095) hdX2_in (by decide) ⟨Nat.zero_le _, Nat.zero_le _⟩ (Nat.le_of_ble_eq_true rfl) dX2_put_18 rfl rfl (fun z18 p18 => ?_)
    have p18 := p18.symm
    subst p18
    refine v_bif_eq (n' := 24) (tgt := 36) h dX2_put_21 rfl rfl (fun c21 => ?_) (fun c21 => ?_)
    · refine v_bipush (n' := 38) h dX2_put_36 rfl (by decide) ?_
      refine v_iret h hq dX2_put_38 (Nat.le_refl _) (Nat.le_refl _) (ret_mi hm ?_)
      unfold oPut; rw [if_pos (fun z => c21 z.2.1)]; exact ⟨rfl, hR⟩
    · refine v_iload_n (n' := 25) h dX2_put_24 rfl rfl ?_
      refine v_i2l (n' := 26) h dX2_put_25 rfl (by omega) ?_
      refine v_lconst (n' := 27) (y := 0) h dX2_put_26 rfl rfl ?_
      refine v_ldc2 (n' := 30) (z := 999) h dX2_put_27 rfl q1246 (by decide) ?_
      refine vs_callI (n' := 33) h (m_in _ _ _ (by omega) (by omega) (by omega)) (lw_S q1093 q1094 q87 q1095) hdX2_in (by decide) ⟨Nat.zero_le _, Nat.zero_le _⟩ (Nat.le_of_ble_eq_true rfl) dX2_put_30 rfl rfl (fun z30 p30 => ?_)
      have p30 := p30.symm
      subst p30
      refine v_bif_ne (n' := 36) (tgt := 39) h dX2_put_33 rfl rfl (fun c33 => ?_) (fun c33 => ?_)
      · have hin : ¬ ¬ ((0 ≤ kind ∧ kind ≤ 4) ∧ (0 ≤ key ∧ key ≤ 99) ∧ (0 ≤ v ∧ v ≤ 999)) := fun z => z ⟨c9, c21, c33⟩
        have ht := there_iff hR hI c21
        have ek : ((key.toNat : Nat) : Int) = key := by omega
        have h7 := hR.2.2.2.2.2.2.1.1.2.1
        refine v_aload_n (n' := 40) h dX2_put_39 rfl rfl ?_
        refine vm_callI (n' := 43) h hok hm (m_lacks _ _ _ hR hI) rfl (lw_V q1216 q1218 qs61 q87 q1219) hdX2_lacks (by decide) ⟨Nat.zero_le _, Nat.zero_le _⟩ (Nat.le_of_ble_eq_true rfl) dX2_put_40 rfl rfl (fun z40 s40 p40 m40 => ?_)
        obtain ⟨ez40, fz40⟩ := p40
        have ez40 := ez40.symm
        have fz40 := fz40.symm
        subst ez40 fz40
        refine v_bif_ne (n' := 46) (tgt := 66) h dX2_put_43 rfl rfl (fun c43 => ?_) (fun c43 => ?_)
        · refine v_bipush (n' := 68) h dX2_put_66 rfl (by decide) ?_
          refine v_iret h hq dX2_put_68 (Nat.le_refl _) (Nat.le_refl _) (ret_mi m40 ?_)
          unfold oPut
          rw [if_neg hin, if_pos (Or.inl c43)]
          exact ⟨rfl, hR⟩
        · refine v_aload_n (n' := 47) h dX2_put_46 rfl rfl ?_
          refine vm_geta (n' := 50) h 5 (by decide) q942 dX2_put_47 rfl ?_
          refine v_iload_n (n' := 51) h dX2_put_50 rfl rfl ?_
          refine vm_iald (n' := 52) h hok m40 5 200 (by decide) dX2_put_51 rfl (by omega) (by decide) (fun g51 => ?_)
          refine v_iconst (n' := 53) h dX2_put_52 rfl ?_
          refine v_icmp_ne (n' := 56) (tgt := 69) h dX2_put_53 rfl rfl (by omega) (by omega) (fun c53 => ?_) (fun c53 => ?_)
          · have nt : ¬ there s key := fun z => c53 (ht.mpr z)
            refine v_aload_n (n' := 70) h dX2_put_69 rfl rfl ?_
            refine vm_geta (n' := 73) h 5 (by decide) q942 dX2_put_70 rfl ?_
            refine v_iload_n (n' := 74) h dX2_put_73 rfl rfl ?_
            refine vm_iald (n' := 75) h hok m40 5 200 (by decide) dX2_put_74 rfl (by omega) (by decide) (fun g74 => ?_)
            refine v_iconst (n' := 76) h dX2_put_75 rfl ?_
            refine v_icmp_ne (n' := 79) (tgt := 95) h dX2_put_76 rfl rfl (by omega) (by omega) (fun c76 => ?_) (fun c76 => ?_)
            · refine v_aload_n (n' := 96) h dX2_put_95 rfl rfl ?_
              refine vm_geta (n' := 99) h 7 (by decide) q944 dX2_put_96 rfl ?_
              refine v_iconst (n' := 100) h dX2_put_99 rfl ?_
              refine vm_iald (n' := 101) h hok m40 7 2 (by decide) dX2_put_100 rfl (by omega) (by decide) (fun g100 => ?_)
              rw [h7] at g100 ⊢
              refine v_bipush (n' := 103) h dX2_put_101 rfl (by decide) ?_
              refine v_icmp_ne (n' := 106) (tgt := 109) h dX2_put_103 rfl rfl (by omega) (by omega) (fun c103 => ?_) (fun c103 => ?_)
              · have hrat := hI.rat c43
                have hz := hI.2.2.2.2.1.2.2.1
                rw [← ek]
                refine v_aload_n (n' := 110) h dX2_put_109 rfl rfl ?_
                refine v_iload_n (n' := 111) h dX2_put_110 rfl rfl ?_
                refine v_iload_n (n' := 112) h dX2_put_111 rfl rfl ?_
                refine v_iload_n (n' := 113) h dX2_put_112 rfl rfl ?_
                refine vm_callV (n' := 116) h hok m40 (m_putNew _ _ hR.2.2.2.2.2.2.1 hI.tb (sA s) (sB s) (sF s) hR.2.2.2.1 hR.2.2.2.2.1 hrat.1 hR.2.2.2.2.2.1 hrat.2 kind v key.toNat (fun z => nt ⟨c21.1, z⟩) (by omega) (by omega) c9 c33) rfl (lw_V q1144 q1146 qs44 q87 q1147) hdX2_putNew (by decide) ⟨Nat.zero_le _, Nat.zero_le _⟩ (Nat.le_of_ble_eq_true rfl) dX2_put_113 rfl rfl (fun s113 p113 m113 => ?_)
                obtain ⟨p1, p9, pF⟩ := p113
                refine v_aload_n (n' := 117) h dX2_put_116 rfl rfl ?_
                refine vm_geti (n' := 120) h m113 9 (by decide) q946 dX2_put_117 rfl (fun g117 => ?_)
                refine v_iret h hq dX2_put_120 (Nat.le_refl _) (Nat.le_refl _) (ret_mi m113 ?_)
                unfold oPut
                rw [if_neg hin, if_neg (fun z => z.elim c43 (fun y => nt y.1)), if_neg nt, if_neg (by omega)]
                exact ⟨p9, pF.MRel hR p1⟩
              · refine v_bipush (n' := 108) h dX2_put_106 rfl (by decide) ?_
                refine v_iret h hq dX2_put_108 (Nat.le_refl _) (Nat.le_refl _) (ret_mi m40 ?_)
                unfold oPut
                rw [if_neg hin, if_neg (fun z => z.elim c43 (fun y => nt y.1)), if_neg nt, if_pos (by omega)]
                exact ⟨rfl, hR⟩
            · exact absurd c76 c53
          · have yt : there s key := ht.mp c53
            obtain ⟨kv1, kv2⟩ := hR.kv yt
            refine v_aload_n (n' := 57) h dX2_put_56 rfl rfl ?_
            refine vm_geta (n' := 60) h 12 (by decide) q949 dX2_put_57 rfl ?_
            refine v_iload_n (n' := 61) h dX2_put_60 rfl rfl ?_
            refine vm_iald (n' := 62) h hok m40 12 100 (by decide) dX2_put_61 rfl (by omega) (by decide) (fun g61 => ?_)
            refine v_iconst (n' := 63) h dX2_put_62 rfl ?_
            refine v_icmp_ne (n' := 66) (tgt := 69) h dX2_put_63 rfl rfl (by omega) (by omega) (fun c63 => ?_) (fun c63 => ?_)
            · refine v_aload_n (n' := 70) h dX2_put_69 rfl rfl ?_
              refine vm_geta (n' := 73) h 5 (by decide) q942 dX2_put_70 rfl ?_
              refine v_iload_n (n' := 74) h dX2_put_73 rfl rfl ?_
              refine vm_iald (n' := 75) h hok m40 5 200 (by decide) dX2_put_74 rfl (by omega) (by decide) (fun g74 => ?_)
              refine v_iconst (n' := 76) h dX2_put_75 rfl ?_
              refine v_icmp_ne (n' := 79) (tgt := 95) h dX2_put_76 rfl rfl (by omega) (by omega) (fun c76 => ?_) (fun c76 => ?_)
              · exact absurd c53 c76
              · refine v_aload_n (n' := 80) h dX2_put_79 rfl rfl ?_
                refine vm_geta (n' := 83) h 12 (by decide) q949 dX2_put_80 rfl ?_
                refine v_iload_n (n' := 84) h dX2_put_83 rfl rfl ?_
                refine v_iload_n (n' := 85) h dX2_put_84 rfl rfl ?_
                refine vm_iast (n' := 86) h hok m40 12 100 (by decide) dX2_put_85 rfl (by omega) (by decide) (by omega) (fun m85 => ?_)
                refine v_aload_n (n' := 87) h dX2_put_86 rfl rfl ?_
                refine vm_geta (n' := 90) h 13 (by decide) q950 dX2_put_87 rfl ?_
                refine v_iload_n (n' := 91) h dX2_put_90 rfl rfl ?_
                refine v_iload_n (n' := 92) h dX2_put_91 rfl rfl ?_
                refine vm_iast (n' := 93) h hok m85 13 100 (by decide) dX2_put_92 rfl (by omega) (by decide) (by omega) (fun m92 => ?_)
                refine v_iconst (n' := 94) h dX2_put_93 rfl ?_
                refine v_iret h hq dX2_put_94 (Nat.le_refl _) (Nat.le_refl _) (ret_mi m92 ?_)
                unfold oPut
                rw [if_neg hin, if_neg (fun z => z.elim c43 (fun y => c63 (by rw [kv1]; exact y.2))), if_pos yt]
                refine ⟨rfl, ((Fpu.sA (by decide)).trans (Fpu.sA (by decide))).MRel hR ?_⟩
                obtain ⟨q1, q2, q3, q4⟩ := hR.2.2.2.2.2.2.1
                refine ⟨q1.cg (fun f i hf => by rw [setA_2o (by omega), setA_2o (by omega)]) (fun _ => ⟨rfl, rfl⟩), fun x hx => ?_, q3.cg (fun i => by rw [setA_2o (by decide), setA_2o (by decide)]) rfl, q4.cg (fun i => by rw [setA_2o (by decide), setA_2o (by decide)]) rfl⟩
                have hx := q2 x hx
                refine ⟨?_, ?_⟩
                · rw [setA_2o (by decide), setA_2]
                  dsimp only
                  by_cases c : x = key.toNat
                  · rw [if_pos ⟨rfl, by omega⟩, if_pos c]
                  · rw [if_neg (by omega), if_neg c]; exact hx.1
                · rw [setA_2]
                  dsimp only
                  by_cases c : x = key.toNat
                  · rw [if_pos ⟨rfl, by omega⟩, if_pos c]
                  · rw [if_neg (by omega), if_neg c, setA_2o (by decide)]; exact hx.2
            · refine v_bipush (n' := 68) h dX2_put_66 rfl (by decide) ?_
              refine v_iret h hq dX2_put_68 (Nat.le_refl _) (Nat.le_refl _) (ret_mi m40 ?_)
              unfold oPut
              rw [if_neg hin, if_pos (Or.inr ⟨yt, by rw [← kv1]; exact c63⟩)]
              exact ⟨rfl, hR⟩
      · refine v_bipush (n' := 38) h dX2_put_36 rfl (by decide) ?_
        refine v_iret h hq dX2_put_38 (Nat.le_refl _) (Nat.le_refl _) (ret_mi hm ?_)
        unfold oPut; rw [if_pos (fun z => c33 z.2.2)]; exact ⟨rfl, hR⟩
noncomputable def oTake (s : SS) (key : Int) : Int × SS := if there s key then (if (sC s).2.1 key.toNat = 1 ∨ (sC s).2.1 key.toNat = 4 then (-103, s) else ((sC s).2.2.1 key.toNat, setC s (shTake (sA s) (sB s) (sF s) (sC s) key.toNat))) else (-101, s)
theorem there_r {s : SS} {n : Int} (hI : SInv s n) {key : Int} (h : there s key) : 0 ≤ key ∧ key ≤ 99 ∧ ¬ sSh s = 0 ∧ ((key.toNat : Nat) : Int) = key := by
  have h1 := hI.2.2.2.2.1.2.1 _ h.2
  have h2 := h.1
  refine ⟨h2, by omega, ?_, by omega⟩
  rcases hI.2.2.2.1 with ⟨-, -, a3, -⟩ | ⟨a1, -⟩
  · have := h.2; rw [a3] at this; simp at this
  · omega
theorem m_take (σ : MS) (s : SS) (n : Int) (hR : MRel σ s) (hI : SInv s n) (key : Int) (h2 : -2147483648 ≤ key ∧ key ≤ 2147483647) : MCi yX2_take cX2_take 2 (some .int) 7 [.int (iI key)] σ (fun z σ' => z = (oTake s key).1 ∧ MRel σ' (oTake s key).2) := by
  intro ad hok hm
  refine Ct.of (by decide) (EL.c1 rfl (EL.c1 rfl EL.n0)) (fun Γ h hq hnm => ?_)
  refine v_aload_n (n' := 1) h dX2_take_0 rfl rfl ?_
  refine v_iload_n (n' := 2) h dX2_take_1 rfl rfl ?_
  refine vm_callI (n' := 5) h hok hm (m_isThere _ _ _ hR hI key h2) rfl (lw_V q1212 q1214 qs60 q87 q1215) hdX2_isThere (by decide) ⟨Nat.zero_le _, Nat.zero_le _⟩ (Nat.le_of_ble_eq_true rfl) dX2_take_2 rfl rfl (fun z2 s2 p2 m2 => ?_)
  obtain ⟨ez2, fz2⟩ := p2
  have ez2 := ez2.symm
  have fz2 := fz2.symm
  subst ez2 fz2
  refine v_bif_ne (n' := 8) (tgt := 11) h dX2_take_5 rfl rfl (fun c5 => ?_) (fun c5 => ?_)
  · obtain ⟨kv1, kv2⟩ := hR.kv c5
    obtain ⟨k0, k99, ns, ek⟩ := there_r hI c5
    have hrat := hI.rat ns
    refine v_aload_n (n' := 12) h dX2_take_11 rfl rfl ?_
    refine vm_geta (n' := 15) h 12 (by decide) q949 dX2_take_12 rfl ?_
    refine v_iload_n (n' := 16) h dX2_take_15 rfl rfl ?_
    refine vm_iald (n' := 17) h hok m2 12 100 (by decide) dX2_take_16 rfl (by omega) (by decide) (fun g16 => ?_)
    refine v_iconst (n' := 18) h dX2_take_17 rfl ?_
    refine v_icmp_eq (n' := 21) (tgt := 31) h dX2_take_18 rfl rfl (by omega) (by omega) (fun c18 => ?_) (fun c18 => ?_)
    · refine v_bipush (n' := 33) h dX2_take_31 rfl (by decide) ?_
      refine v_iret h hq dX2_take_33 (Nat.le_refl _) (Nat.le_refl _) (ret_mi m2 ?_)
      unfold oTake; rw [if_pos c5, if_pos (Or.inl (by omega))]; exact ⟨rfl, hR⟩
    · refine v_aload_n (n' := 22) h dX2_take_21 rfl rfl ?_
      refine vm_geta (n' := 25) h 12 (by decide) q949 dX2_take_22 rfl ?_
      refine v_iload_n (n' := 26) h dX2_take_25 rfl rfl ?_
      refine vm_iald (n' := 27) h hok m2 12 100 (by decide) dX2_take_26 rfl (by omega) (by decide) (fun g26 => ?_)
      refine v_iconst (n' := 28) h dX2_take_27 rfl ?_
      refine v_icmp_ne (n' := 31) (tgt := 34) h dX2_take_28 rfl rfl (by omega) (by omega) (fun c28 => ?_) (fun c28 => ?_)
      · rw [← ek]
        refine v_aload_n (n' := 35) h dX2_take_34 rfl rfl ?_
        refine v_iload_n (n' := 36) h dX2_take_35 rfl rfl ?_
        refine vm_callV (n' := 39) h hok m2 (m_takeOut _ _ hR.2.2.2.2.2.2.1 hI.tb (sA s) (sB s) (sF s) hR.2.2.2.1 hR.2.2.2.2.1 hrat.1 hR.2.2.2.2.2.1 hrat.2 key.toNat c5.2) rfl (lw_V q1251 q1253 qs64 q87 q1254) hdX2_takeOut (by decide) ⟨Nat.zero_le _, Nat.zero_le _⟩ (Nat.le_of_ble_eq_true rfl) dX2_take_36 rfl rfl (fun s36 p36 m36 => ?_)
        obtain ⟨p1, pF, p13⟩ := p36
        refine v_aload_n (n' := 40) h dX2_take_39 rfl rfl ?_
        refine vm_geta (n' := 43) h 13 (by decide) q950 dX2_take_40 rfl ?_
        refine v_iload_n (n' := 44) h dX2_take_43 rfl rfl ?_
        refine vm_iald (n' := 45) h hok m36 13 100 (by decide) dX2_take_44 rfl (by omega) (by decide) (fun g44 => ?_)
        refine v_iret h hq dX2_take_45 (Nat.le_refl _) (Nat.le_refl _) (ret_mi m36 ?_)
        unfold oTake
        rw [if_pos c5, if_neg (by omega)]
        refine ⟨?_, pF.MRel hR p1⟩
        rw [p13, ek, kv2]
      · refine v_bipush (n' := 33) h dX2_take_31 rfl (by decide) ?_
        refine v_iret h hq dX2_take_33 (Nat.le_refl _) (Nat.le_refl _) (ret_mi m2 ?_)
        unfold oTake; rw [if_pos c5, if_pos (Or.inr (by omega))]; exact ⟨rfl, hR⟩
  · refine v_bipush (n' := 10) h dX2_take_8 rfl (by decide) ?_
    refine v_iret h hq dX2_take_10 (Nat.le_refl _) (Nat.le_refl _) (ret_mi m2 ?_)
    unfold oTake; rw [if_neg c5]; exact ⟨rfl, hR⟩
noncomputable def oTell (s : SS) (key : Int) : Int × SS := if there s key then ((sC s).2.2.1 key.toNat, if (sC s).2.1 key.toNat = 3 then setC s (shTake (sA s) (sB s) (sF s) (sC s) key.toNat) else if (sC s).2.1 key.toNat = 2 ∧ (sC s).2.2.1 key.toNat < 999 then setC s ((sC s).1, (sC s).2.1, fun x => if x = key.toNat then (sC s).2.2.1 key.toNat + 1 else (sC s).2.2.1 x, (sC s).2.2.2.1, (sC s).2.2.2.2) else s) else (-101, s)
theorem m_tell (σ : MS) (s : SS) (n : Int) (hR : MRel σ s) (hI : SInv s n) (key : Int) (h2 : -2147483648 ≤ key ∧ key ≤ 2147483647) : MCi yX2_tell cX2_tell 3 (some .int) 7 [.int (iI key)] σ (fun z σ' => z = (oTell s key).1 ∧ MRel σ' (oTell s key).2) := by
  intro ad hok hm
  refine Ct.of (by decide) (EL.c1 rfl (EL.c1 rfl (EL.nn EL.n0))) (fun Γ h hq hnm => ?_)
  refine v_aload_n (n' := 1) h dX2_tell_0 rfl rfl ?_
  refine v_iload_n (n' := 2) h dX2_tell_1 rfl rfl ?_
  refine vm_callI (n' := 5) h hok hm (m_isThere _ _ _ hR hI key h2) rfl (lw_V q1212 q1214 qs60 q87 q1215) hdX2_isThere (by decide) ⟨Nat.zero_le _, Nat.zero_le _⟩ (Nat.le_of_ble_eq_true rfl) dX2_tell_2 rfl rfl (fun z2 s2 p2 m2 => ?_)
  obtain ⟨ez2, fz2⟩ := p2
  have ez2 := ez2.symm
  have fz2 := fz2.symm
  subst ez2 fz2
  refine v_bif_ne (n' := 8) (tgt := 11) h dX2_tell_5 rfl rfl (fun c5 => ?_) (fun c5 => ?_)
  · obtain ⟨kv1, kv2⟩ := hR.kv c5
    obtain ⟨k0, k99, ns, ek⟩ := there_r hI c5
    have hrat := hI.rat ns
    have hvr := (hI.2.2.2.2.1.2.2.2.2.1 _ c5.2).2
    refine v_aload_n (n' := 12) h dX2_tell_11 rfl rfl ?_
    refine vm_geta (n' := 15) h 13 (by decide) q950 dX2_tell_12 rfl ?_
    refine v_iload_n (n' := 16) h dX2_tell_15 rfl rfl ?_
    refine vm_iald (n' := 17) h hok m2 13 100 (by decide) dX2_tell_16 rfl (by omega) (by decide) (fun g16 => ?_)
    refine v_istore2 (n' := 18) h dX2_tell_17 rfl rfl ?_
    refine v_aload_n (n' := 19) h dX2_tell_18 rfl rfl ?_
    refine vm_geta (n' := 22) h 12 (by decide) q949 dX2_tell_19 rfl ?_
    refine v_iload_n (n' := 23) h dX2_tell_22 rfl rfl ?_
    refine vm_iald (n' := 24) h hok m2 12 100 (by decide) dX2_tell_23 rfl (by omega) (by decide) (fun g23 => ?_)
    refine v_iconst (n' := 25) h dX2_tell_24 rfl ?_
    refine v_icmp_ne (n' := 28) (tgt := 45) h dX2_tell_25 rfl rfl (by omega) (by omega) (fun c25 => ?_) (fun c25 => ?_)
    · refine v_aload_n (n' := 46) h dX2_tell_45 rfl rfl ?_
      refine vm_geta (n' := 49) h 12 (by decide) q949 dX2_tell_46 rfl ?_
      refine v_iload_n (n' := 50) h dX2_tell_49 rfl rfl ?_
      refine vm_iald (n' := 51) h hok m2 12 100 (by decide) dX2_tell_50 rfl (by omega) (by decide) (fun g50 => ?_)
      refine v_iconst (n' := 52) h dX2_tell_51 rfl ?_
      refine v_icmp_ne (n' := 55) (tgt := 60) h dX2_tell_52 rfl rfl (by omega) (by omega) (fun c52 => ?_) (fun c52 => ?_)
      · refine v_iload_n (n' := 61) h dX2_tell_60 rfl rfl ?_
        refine v_iret h hq dX2_tell_61 (Nat.le_refl _) (Nat.le_refl _) (ret_mi m2 ?_)
        unfold oTell; rw [if_pos c5, if_neg (by omega), if_neg (by omega)]; exact ⟨kv2, hR⟩
      · rw [← ek]
        refine v_aload_n (n' := 56) h dX2_tell_55 rfl rfl ?_
        refine v_iload_n (n' := 57) h dX2_tell_56 rfl rfl ?_
        refine vm_callV (n' := 60) h hok m2 (m_takeOut _ _ hR.2.2.2.2.2.2.1 hI.tb (sA s) (sB s) (sF s) hR.2.2.2.1 hR.2.2.2.2.1 hrat.1 hR.2.2.2.2.2.1 hrat.2 key.toNat c5.2) rfl (lw_V q1251 q1253 qs64 q87 q1254) hdX2_takeOut (by decide) ⟨Nat.zero_le _, Nat.zero_le _⟩ (Nat.le_of_ble_eq_true rfl) dX2_tell_57 rfl rfl (fun s57 p57 m57 => ?_)
        obtain ⟨p1, pF, p13⟩ := p57
        refine v_iload_n (n' := 61) h dX2_tell_60 rfl rfl ?_
        refine v_iret h hq dX2_tell_61 (Nat.le_refl _) (Nat.le_refl _) (ret_mi m57 ?_)
        unfold oTell; rw [if_pos c5, if_pos (by omega)]; exact ⟨by rw [ek]; exact kv2, pF.MRel hR p1⟩
    · refine v_iload_n (n' := 29) h dX2_tell_28 rfl rfl ?_
      refine v_sipush (n' := 32) h dX2_tell_29 rfl (by decide) ?_
      refine v_icmp_ge (n' := 35) (tgt := 45) h dX2_tell_32 rfl rfl (by omega) (by omega) (fun c32 => ?_) (fun c32 => ?_)
      · refine v_aload_n (n' := 46) h dX2_tell_45 rfl rfl ?_
        refine vm_geta (n' := 49) h 12 (by decide) q949 dX2_tell_46 rfl ?_
        refine v_iload_n (n' := 50) h dX2_tell_49 rfl rfl ?_
        refine vm_iald (n' := 51) h hok m2 12 100 (by decide) dX2_tell_50 rfl (by omega) (by decide) (fun g50 => ?_)
        refine v_iconst (n' := 52) h dX2_tell_51 rfl ?_
        refine v_icmp_ne (n' := 55) (tgt := 60) h dX2_tell_52 rfl rfl (by omega) (by omega) (fun c52 => ?_) (fun c52 => ?_)
        · refine v_iload_n (n' := 61) h dX2_tell_60 rfl rfl ?_
          refine v_iret h hq dX2_tell_61 (Nat.le_refl _) (Nat.le_refl _) (ret_mi m2 ?_)
          unfold oTell; rw [if_pos c5, if_neg (by omega), if_neg (by omega)]; exact ⟨kv2, hR⟩
        · exact absurd c52 (by omega)
      · refine v_aload_n (n' := 36) h dX2_tell_35 rfl rfl ?_
        refine vm_geta (n' := 39) h 13 (by decide) q950 dX2_tell_36 rfl ?_
        refine v_iload_n (n' := 40) h dX2_tell_39 rfl rfl ?_
        refine v_dup2 (n' := 41) h dX2_tell_40 rfl rfl rfl ?_
        refine vm_iald (n' := 42) h hok m2 13 100 (by decide) dX2_tell_41 rfl (by omega) (by decide) (fun g41 => ?_)
        refine v_iconst (n' := 43) h dX2_tell_42 rfl ?_
        refine v_iadd (n' := 44) h dX2_tell_43 rfl ?_
        refine vm_iast (n' := 45) h hok m2 13 100 (by decide) dX2_tell_44 rfl (by omega) (by decide) (by omega) (fun m44 => ?_)
        refine v_aload_n (n' := 46) h dX2_tell_45 rfl rfl ?_
        refine vm_geta (n' := 49) h 12 (by decide) q949 dX2_tell_46 rfl ?_
        refine v_iload_n (n' := 50) h dX2_tell_49 rfl rfl ?_
        refine vm_iald (n' := 51) h hok m44 12 100 (by decide) dX2_tell_50 rfl (by omega) (by decide) (fun g50 => ?_)
        refine v_iconst (n' := 52) h dX2_tell_51 rfl ?_
        refine v_icmp_ne (n' := 55) (tgt := 60) h dX2_tell_52 rfl rfl (by omega) (by omega) (fun c52 => ?_) (fun c52 => ?_)
        · refine v_iload_n (n' := 61) h dX2_tell_60 rfl rfl ?_
          refine v_iret h hq dX2_tell_61 (Nat.le_refl _) (Nat.le_refl _) (ret_mi m44 ?_)
          unfold oTell
          rw [if_pos c5, if_neg (by omega), if_pos ⟨by omega, by omega⟩]
          refine ⟨kv2, (Fpu.sA (by decide)).MRel hR ?_⟩
          obtain ⟨q1, q2, q3, q4⟩ := hR.2.2.2.2.2.2.1
          refine ⟨q1.cg (fun f i hf => by rw [setA_2o (by omega)]) (fun _ => ⟨rfl, rfl⟩), fun x hx => ?_, q3.cg (fun i => by rw [setA_2o (by decide)]) rfl, q4.cg (fun i => by rw [setA_2o (by decide)]) rfl⟩
          have hx := q2 x hx
          refine ⟨by rw [setA_2o (by decide)]; exact hx.1, ?_⟩
          rw [setA_2]
          dsimp only
          by_cases c : x = key.toNat
          · rw [if_pos ⟨rfl, by omega⟩, if_pos c, kv2]
          · rw [if_neg (by omega), if_neg c]; exact hx.2
        · exact absurd c52 (by rw [setA_2o (by decide)]; omega)
  · refine v_bipush (n' := 10) h dX2_tell_8 rfl (by decide) ?_
    refine v_iret h hq dX2_tell_10 (Nat.le_refl _) (Nat.le_refl _) (ret_mi m2 ?_)
    unfold oTell; rw [if_neg c5]; exact ⟨rfl, hR⟩
noncomputable def oFlatten (s : SS) : Int × SS := if sSh s = 0 then (-103, s) else ((tz (sC s).1.1 : Int), if tz (sC s).1.1 = 0 then s else setC s (teFlat (sC s).1, (sC s).2.1, (sC s).2.2.1, (sC s).2.2.2.1, (sC s).2.2.2.2))
theorem m_flatten (σ : MS) (s : SS) (n : Int) (hR : MRel σ s) (hI : SInv s n) : MCi yX2_flatten cX2_flatten 1 (some .int) 4 [] σ (fun z σ' => z = (oFlatten s).1 ∧ MRel σ' (oFlatten s).2) := by
  intro ad hok hm
  obtain ⟨q1, q2, q3, q4⟩ := hR.2.2.2.2.2.2.1
  have hTT := q1
  obtain ⟨u1, u7, u8, u10, u11, um⟩ := hTT
  have hB := hI.tb
  have um0 := um rfl
  have h19 : -1000000000 ≤ σ.1 19 ∧ σ.1 19 ≤ 1000000000 := by
    have := congrArg Prod.fst um0
    have hB4 := hB.2.2.2.1
    dsimp only at this
    omega
  have hz := hI.2.2.2.2.1.2.2.1
  refine Ct.of (by decide) (EL.c1 rfl EL.n0) (fun Γ h hq hnm => ?_)
  refine v_aload_n (n' := 1) h dX2_flatten_0 rfl rfl ?_
  refine vm_callI (n' := 4) h hok hm (m_lacks _ _ _ hR hI) rfl (lw_V q1216 q1218 qs61 q87 q1219) hdX2_lacks (by decide) ⟨Nat.zero_le _, Nat.zero_le _⟩ (Nat.le_of_ble_eq_true rfl) dX2_flatten_1 rfl rfl (fun z1 s1 p1 m1 => ?_)
  obtain ⟨ez1, fz1⟩ := p1
  have ez1 := ez1.symm
  have fz1 := fz1.symm
  subst ez1 fz1
  refine v_bif_eq (n' := 7) (tgt := 10) h dX2_flatten_4 rfl rfl (fun c4 => ?_) (fun c4 => ?_)
  · refine v_aload_n (n' := 11) h dX2_flatten_10 rfl rfl ?_
    refine vm_geta (n' := 14) h 7 (by decide) q944 dX2_flatten_11 rfl ?_
    refine v_iconst (n' := 15) h dX2_flatten_14 rfl ?_
    refine vm_iald (n' := 16) h hok m1 7 2 (by decide) dX2_flatten_15 rfl (by omega) (by decide) (fun g15 => ?_)
    rw [u7] at g15 ⊢
    refine v_if_le (n' := 19) (tgt := 30) h dX2_flatten_16 rfl rfl (by omega) (fun c16 => ?_) (fun c16 => ?_)
    · refine v_aload_n (n' := 31) h dX2_flatten_30 rfl rfl ?_
      refine vm_geta (n' := 34) h 7 (by decide) q944 dX2_flatten_31 rfl ?_
      refine v_iconst (n' := 35) h dX2_flatten_34 rfl ?_
      refine vm_iald (n' := 36) h hok m1 7 2 (by decide) dX2_flatten_35 rfl (by omega) (by decide) (fun g35 => ?_)
      refine v_iret h hq dX2_flatten_36 (Nat.le_refl _) (Nat.le_refl _) (ret_mi m1 ?_)
      unfold oFlatten
      rw [if_neg c4, if_pos (by omega)]
      exact ⟨u7, hR⟩
    · have hne : (sC s).1.1 ≠ .leaf () := fun z => by rw [z] at c16; simp [tz] at c16
      obtain ⟨x, hx⟩ : ∃ x, ro (sC s).1.1 = some x := by
        cases hr : ro (sC s).1.1 with
        | none => exact absurd (ro_none.mp hr) hne
        | some x => exact ⟨x, rfl⟩
      have hrx : rk (sC s).1.1 = (x : Int) := by rw [rk_ro, hx]
      obtain ⟨gr1, sb1⟩ := gr_root (S := flat (sC s).1.1) hrx
      have u6 : σ.2 6 0 = (x : Int) := by rw [u1.2.1, hrx]
      refine v_aload_n (n' := 20) h dX2_flatten_19 rfl rfl ?_
      refine v_iconst (n' := 21) h dX2_flatten_20 rfl ?_
      refine v_aload_n (n' := 22) h dX2_flatten_21 rfl rfl ?_
      refine vm_geta (n' := 25) h 6 (by decide) q943 dX2_flatten_22 rfl ?_
      refine v_iconst (n' := 26) h dX2_flatten_25 rfl ?_
      refine vm_iald (n' := 27) h hok m1 6 2 (by decide) dX2_flatten_26 rfl (by omega) (by decide) (fun g26 => ?_)
      rw [u6] at g26 ⊢
      refine vm_callV (n' := 30) h hok m1 (m_build _ _ (Or.inl rfl) _ u1 x (ro_mem hx) (by rw [u10]; exact hB.2.1) (by rw [u11]; exact hB.2.2.1) h19) rfl (lw_V q1192 q1194 qs56 q87 q1195) hdX2_build (by decide) ⟨Nat.zero_le _, Nat.zero_le _⟩ (Nat.le_of_ble_eq_true rfl) dX2_flatten_27 rfl rfl (fun s27 p27 m27 => ?_)
      obtain ⟨b1, b9, b7, b8, b10, b11, bm, bF⟩ := p27
      rw [sb1] at b1 b9 b11 bm
      rw [gr1] at b1
      refine v_aload_n (n' := 31) h dX2_flatten_30 rfl rfl ?_
      refine vm_geta (n' := 34) h 7 (by decide) q944 dX2_flatten_31 rfl ?_
      refine v_iconst (n' := 35) h dX2_flatten_34 rfl ?_
      refine vm_iald (n' := 36) h hok m27 7 2 (by decide) dX2_flatten_35 rfl (by omega) (by decide) (fun g35 => ?_)
      refine v_iret h hq dX2_flatten_36 (Nat.le_refl _) (Nat.le_refl _) (ret_mi m27 ?_)
      unfold oFlatten
      rw [if_neg c4, if_neg (by omega)]
      refine ⟨by rw [b7, u7], bF.pu.MRel hR ⟨⟨b1, ?_, by rw [b8, u8]; rfl, by rw [b10, u10]; rfl, by rw [b11, u11]; rfl, fun _ => ?_⟩, ?_, ?_, ?_⟩⟩
      · rw [b7, u7]
        show _ = (tz (flat (sC s).1.1) : Int)
        rw [flat_tz]
      · obtain ⟨m1, m2⟩ := bm rfl
        have e1 := congrArg Prod.fst um0
        have e2 := congrArg Prod.snd um0
        dsimp only at e1 e2
        rw [m1, m2, e1, e2]
        show _ = payN (sC s).1.2.2.2.2 (0 - (tz (sC s).1.1 : Int))
        unfold payN
        rw [show (sC s).1.2.2.2.2.1 + (0 - (tz (sC s).1.1 : Int)) = (sC s).1.2.2.2.2.1 - (tz (sC s).1.1 : Int) by omega]
      · intro y hy
        have hy : y ∈ tl (flat (sC s).1.1) := hy
        rw [flat_tl] at hy
        rw [bF.2 12 _ (by unfold wr; omega), bF.2 13 _ (by unfold wr; omega)]
        exact q2 y hy
      · exact q3.cg (fun i => bF.2 21 i (by unfold wr; omega)) (bF.1 22 (by decide) (by decide))
      · exact q4.cg (fun i => bF.2 29 i (by unfold wr; omega)) (bF.1 28 (by decide) (by decide))
  · refine v_bipush (n' := 9) h dX2_flatten_7 rfl (by decide) ?_
    refine v_iret h hq dX2_flatten_9 (Nat.le_refl _) (Nat.le_refl _) (ret_mi m1 ?_)
    unfold oFlatten; rw [if_pos c4]; exact ⟨rfl, hR⟩
