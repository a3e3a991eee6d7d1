/-! MODEL 15: sorts -/
set_option maxRecDepth 100000
theorem v_table3 {Γ : GX} {k n : Nat} {hp : AH} {pc : Nat} {L : List (Option Value)} {st : List Value} {cc : ByteArray} {own : String} {ret : Option FieldType} {R : Room} {x df : Int} {o0 o1 o2 : Int} {t0 t1 t2 td len : Nat} (h : Ok0 cc own ret R Γ) (d : decode cc pc = .ok (.tableswitch df 0 2 #[o0, o1, o2], len)) (hx : -2147483648 ≤ x ∧ x ≤ 2147483647) (_ : True = True) (h0 : (pc : Int) + o0 = (t0 : Int)) (h1 : (pc : Int) + o1 = (t1 : Int)) (h2 : (pc : Int) + o2 = (t2 : Int)) (hd : (pc : Int) + df = (td : Int)) (k0 : x = 0 → V Γ k n hp t0 L st) (k1 : x = 1 → V Γ k n hp t1 L st) (k2 : x = 2 → V Γ k n hp t2 L st) (kd : x < 0 ∨ 2 < x → V Γ k n hp td L st) : V Γ k n hp pc L (.int (iI x) :: st) := by
  by_cases c : x < 0 ∨ 2 < x
  · exact v_tableOut h d hx c hd (kd c)
  · have hc : x = 0 ∨ x = 1 ∨ x = 2 := by omega
    rcases hc with rfl | rfl | rfl
    · exact v_tableIn (off := o0) h d hx (by omega) (by omega) rfl h0 (k0 rfl)
    · exact v_tableIn (off := o1) h d hx (by omega) (by omega) rfl h1 (k1 rfl)
    · exact v_tableIn (off := o2) h d hx (by omega) (by omega) rfl h2 (k2 rfl)

theorem s_l31 : ∀ n, n < 32 → ((nI n &&& 31).toBitVec.smod 32).toNat = n := by decide
theorem shr_nat {n k : Nat} (hn : n < 2 ^ 31) (hk : k < 32) : iI (n : Int) >>> (iI (k : Int) &&& 31) = iI ((n / 2 ^ k : Nat) : Int) := pk_shrN hn _ k (s_l31 k hk)
theorem and_nat (a b : Nat) : iI (a : Int) &&& iI (b : Int) = iI ((a &&& b : Nat) : Int) := by
  apply Int32.toBitVec_inj.mp
  rw [Int32.toBitVec_and]
  show BitVec.ofNat 32 a &&& BitVec.ofNat 32 b = BitVec.ofNat 32 (a &&& b)
  exact (BitVec.ofNat_and).symm
theorem and_one (a : Nat) : iI (a : Int) &&& iI 1 = iI ((a % 2 : Nat) : Int) := by
  have := and_nat a 1
  rw [Nat.and_one_is_mod] at this
  exact this
def sbN (what : Int) : Nat := if what = 0 then 13 else if what = 1 then 15 else if what = 2 then 4 else 23
theorem sbN_lt (what : Int) : sbN what < 32 := by
  unfold sbN
  repeat' split
  all_goals decide
theorem m_sortsBy (what : Int) (hw : 0 ≤ what ∧ what ≤ 3) : SCi yX2_sortsBy cX2_sortsBy 1 (some .int) 1 [.int (iI what)] (fun z => z = (sbN what : Int)) := by
  intro hp
  refine Ct.of (by decide) (EL.c1 rfl EL.n0) (fun Γ h hq hnm => ?_)
  refine v_iload_n (n' := 1) h dX2_sortsBy_0 rfl rfl ?_
  refine v_table3 (t0 := 28) (t1 := 31) (t2 := 34) (td := 36) h dX2_sortsBy_1 (by omega) rfl rfl rfl rfl rfl (fun s1 => ?_) (fun s1 => ?_) (fun s1 => ?_) (fun s1 => ?_)
  · refine v_bipush (n' := 30) h dX2_sortsBy_28 rfl (by decide) ?_
    refine v_iret h hq dX2_sortsBy_30 (Nat.le_refl _) (Nat.le_refl _) (ret_i ?_)
    subst s1; exact ⟨rfl, rfl⟩
  · refine v_bipush (n' := 33) h dX2_sortsBy_31 rfl (by decide) ?_
    refine v_iret h hq dX2_sortsBy_33 (Nat.le_refl _) (Nat.le_refl _) (ret_i ?_)
    subst s1; exact ⟨rfl, rfl⟩
  · refine v_iconst (n' := 35) h dX2_sortsBy_34 rfl ?_
    refine v_iret h hq dX2_sortsBy_35 (Nat.le_refl _) (Nat.le_refl _) (ret_i ?_)
    subst s1; exact ⟨rfl, rfl⟩
  · refine v_bipush (n' := 38) h dX2_sortsBy_36 rfl (by decide) ?_
    refine v_iret h hq dX2_sortsBy_38 (Nat.le_refl _) (Nat.le_refl _) (ret_i ?_)
    obtain rfl : what = 3 := by omega
    exact ⟨rfl, rfl⟩
def srtStep (key : Int) (bits : Nat) (x : Int × Int × Int) : Nat := if x.1 = key then bits &&& (if x.2.2 = 1 then sbN x.2.1 else 31 - sbN x.2.1) else bits
def srtN (sn : List (Int × Int × Int)) (key : Int) : Nat := sn.foldl (srtStep key) 31
theorem srtStep_lt {key : Int} {bits : Nat} {x : Int × Int × Int} (h : bits < 32) : srtStep key bits x < 32 := by
  unfold srtStep
  split
  · exact Nat.lt_of_le_of_lt Nat.and_le_left h
  · exact h
theorem srtN_lt (sn : List (Int × Int × Int)) (key : Int) : srtN sn key < 32 := by
  unfold srtN
  have : ∀ (l : List (Int × Int × Int)) (b : Nat), b < 32 → l.foldl (srtStep key) b < 32 := by
    intro l
    induction l with
    | nil => intro b h; exact h
    | cons x l ih => intro b h; exact ih _ (srtStep_lt h)
  exact this sn 31 (by decide)
theorem m_sortsOf_loop {Γ : GX} {σ : MS} {s : SS} {n : Int} {ad : Nat → Nat} {key : Int} (hk : -2147483648 ≤ key ∧ key ≤ 2147483647) (hok : AdOk ad) (hm : MR σ) (hR : MRel σ s) (hI : SInv s n) (h : Ok0 cX2_sortsOf yX2_sortsOf.cls (some .int) (rmL 2) Γ) (hq : Rt (PI ad (fun z σ' => z = (srtN (sC s).2.2.2.2 key : Int) ∧ σ' = σ)) 0 0 Γ) :
    ∀ (m j : Nat) (bits : Nat) (w : Option Value), j + m = (sC s).2.2.2.2.length → bits < 32 → ((sC s).2.2.2.2.drop j).foldl (srtStep key) bits = srtN (sC s).2.2.2.2 key → V Γ 0 0 (mH ad σ) 5 [some (.ref (ad 50)), some (.int (iI key)), some (.int (iI (bits : Int))), some (.int (iI (3 * (j : Int)))), w] [] := by
  obtain ⟨l1, l2, l3⟩ := hR.2.2.2.2.2.2.1.2.2.2
  have hso := hI.2.2.2.2.1.2.2.2.2.2.2
  intro m
  induction m with
  | zero =>
    intro j bits w hj hb hf
    have ej : j = (sC s).2.2.2.2.length := by omega
    rw [ej, List.drop_length] at hf
    have hf : bits = srtN (sC s).2.2.2.2 key := hf
    refine v_iload_n (n' := 6) h dX2_sortsOf_5 rfl rfl ?_
    refine v_iconst (n' := 7) h dX2_sortsOf_6 rfl ?_
    refine v_aload_n (n' := 8) h dX2_sortsOf_7 rfl rfl ?_
    refine vm_geti (n' := 11) h hm 28 (by decide) q965 dX2_sortsOf_8 rfl (fun g8 => ?_)
    refine v_imul (n' := 12) h dX2_sortsOf_11 rfl ?_
    refine v_icmp_ge (n' := 15) (tgt := 69) h dX2_sortsOf_12 rfl rfl (by omega) (by omega) (fun c12 => ?_) (fun c12 => ?_)
    · refine v_iload_n (n' := 70) h dX2_sortsOf_69 rfl rfl ?_
      refine v_iret h hq dX2_sortsOf_70 (Nat.le_refl _) (Nat.le_refl _) (ret_mi hm ?_)
      exact ⟨by rw [hf], rfl⟩
    · exact absurd (show 3 * σ.1 28 ≤ 3 * (j : Int) by omega) c12
  | succ m ih =>
    intro j bits w hj hb hf
    have hj2 : j < (sC s).2.2.2.2.length := by omega
    obtain ⟨x1, x2, x3⟩ := l3 j hj2
    have ed : (sC s).2.2.2.2.drop j = (sC s).2.2.2.2.getD j (0, 0, 0) :: (sC s).2.2.2.2.drop (j + 1) := by
      rw [List.drop_eq_getElem_cons hj2]
      simp [List.getD, hj2]
    have hxm : (sC s).2.2.2.2.getD j (0, 0, 0) ∈ (sC s).2.2.2.2 := by
      have g1 : (sC s).2.2.2.2.getD j (0, 0, 0) = (sC s).2.2.2.2[j] := by simp [List.getD, hj2]
      rw [g1]
      exact List.getElem_mem hj2
    obtain ⟨o1, o2, o3⟩ := hso _ hxm
    rw [ed] at hf
    generalize (sC s).2.2.2.2.getD j (0, 0, 0) = x at hf x1 x2 x3 o1 o2 o3
    have hf : ((sC s).2.2.2.2.drop (j + 1)).foldl (srtStep key) (srtStep key bits x) = srtN (sC s).2.2.2.2 key := hf
    have ek : 3 * ((j + 1 : Nat) : Int) = 3 * (j : Int) + 3 := by omega
    have hsb := sbN_lt x.2.1
    have ih := ih (j + 1) (srtStep key bits x)
    have hlt := srtStep_lt (key := key) (x := x) hb
    rw [ek] at ih
    refine v_iload_n (n' := 6) h dX2_sortsOf_5 rfl rfl ?_
    refine v_iconst (n' := 7) h dX2_sortsOf_6 rfl ?_
    refine v_aload_n (n' := 8) h dX2_sortsOf_7 rfl rfl ?_
    refine vm_geti (n' := 11) h hm 28 (by decide) q965 dX2_sortsOf_8 rfl (fun g8 => ?_)
    refine v_imul (n' := 12) h dX2_sortsOf_11 rfl ?_
    refine v_icmp_ge (n' := 15) (tgt := 69) h dX2_sortsOf_12 rfl rfl (by omega) (by omega) (fun c12 => ?_) (fun c12 => ?_)
    · exact absurd c12 (by omega)
    · refine v_aload_n (n' := 16) h dX2_sortsOf_15 rfl rfl ?_
      refine vm_geta (n' := 19) h 29 (by decide) q966 dX2_sortsOf_16 rfl ?_
      refine v_iload_n (n' := 20) h dX2_sortsOf_19 rfl rfl ?_
      refine vm_iald (n' := 21) h hok hm 29 18 (by decide) dX2_sortsOf_20 rfl (by omega) (by decide) (fun g20 => ?_)
      rw [x1] at g20 ⊢
      refine v_iload_n (n' := 22) h dX2_sortsOf_21 rfl rfl ?_
      refine v_icmp_ne (n' := 25) (tgt := 63) h dX2_sortsOf_22 rfl rfl (by omega) (by omega) (fun c22 => ?_) (fun c22 => ?_)
      · refine v_iinc3 (n' := 66) h dX2_sortsOf_63 rfl rfl ?_
        refine v_goto (tgt := 5) h dX2_sortsOf_66 rfl ?_
        rw [show srtStep key bits x = bits from by unfold srtStep; rw [if_neg c22]] at ih hf
        exact ih _ (by omega) hb hf
      · refine v_aload_n (n' := 26) h dX2_sortsOf_25 rfl rfl ?_
        refine vm_geta (n' := 29) h 29 (by decide) q966 dX2_sortsOf_26 rfl ?_
        refine v_iload_n (n' := 30) h dX2_sortsOf_29 rfl rfl ?_
        refine v_iconst (n' := 31) h dX2_sortsOf_30 rfl ?_
        refine v_iadd (n' := 32) h dX2_sortsOf_31 rfl ?_
        refine vm_iald (n' := 33) h hok hm 29 18 (by decide) dX2_sortsOf_32 rfl (by omega) (by decide) (fun g32 => ?_)
        rw [x2] at g32 ⊢
        refine vs_callI (n' := 36) h (m_sortsBy _ o2) (lw_S q1342 q1343 q87 q1344) hdX2_sortsBy (by decide) ⟨Nat.zero_le _, Nat.zero_le _⟩ (Nat.le_of_ble_eq_true rfl) dX2_sortsOf_33 rfl rfl (fun z33 p33 => ?_)
        have p33 := p33.symm
        subst p33
        refine v_istore4 (n' := 38) h dX2_sortsOf_36 rfl rfl ?_
        refine v_iload_n (n' := 39) h dX2_sortsOf_38 rfl rfl ?_
        refine v_aload_n (n' := 40) h dX2_sortsOf_39 rfl rfl ?_
        refine vm_geta (n' := 43) h 29 (by decide) q966 dX2_sortsOf_40 rfl ?_
        refine v_iload_n (n' := 44) h dX2_sortsOf_43 rfl rfl ?_
        refine v_iconst (n' := 45) h dX2_sortsOf_44 rfl ?_
        refine v_iadd (n' := 46) h dX2_sortsOf_45 rfl ?_
        refine vm_iald (n' := 47) h hok hm 29 18 (by decide) dX2_sortsOf_46 rfl (by omega) (by decide) (fun g46 => ?_)
        rw [x3] at g46 ⊢
        refine v_iconst (n' := 48) h dX2_sortsOf_47 rfl ?_
        refine v_icmp_ne (n' := 51) (tgt := 56) h dX2_sortsOf_48 rfl rfl (by omega) (by omega) (fun c48 => ?_) (fun c48 => ?_)
        · refine v_bipush (n' := 58) h dX2_sortsOf_56 rfl (by decide) ?_
          refine v_iload (n' := 60) h dX2_sortsOf_58 rfl rfl ?_
          refine v_isub (n' := 61) h dX2_sortsOf_60 rfl ?_
          rw [show (31 : Int) - (sbN x.2.1 : Int) = ((31 - sbN x.2.1 : Nat) : Int) by omega]
          refine v_iand (n' := 62) h dX2_sortsOf_61 rfl (and_nat _ _) ?_
          refine v_istore2 (n' := 63) h dX2_sortsOf_62 rfl rfl ?_
          refine v_iinc3 (n' := 66) h dX2_sortsOf_63 rfl rfl ?_
          refine v_goto (tgt := 5) h dX2_sortsOf_66 rfl ?_
          rw [show srtStep key bits x = bits &&& (31 - sbN x.2.1) from by unfold srtStep; rw [if_pos c22, if_neg c48]] at ih hf hlt
          exact ih _ (by omega) hlt hf
        · refine v_iload (n' := 53) h dX2_sortsOf_51 rfl rfl ?_
          refine v_goto (tgt := 61) h dX2_sortsOf_53 rfl ?_
          rw [show ((sbN x.2.1 : Nat) : Int) = ((sbN x.2.1 : Nat) : Int) from rfl]
          refine v_iand (n' := 62) h dX2_sortsOf_61 rfl (and_nat _ _) ?_
          refine v_istore2 (n' := 63) h dX2_sortsOf_62 rfl rfl ?_
          refine v_iinc3 (n' := 66) h dX2_sortsOf_63 rfl rfl ?_
          refine v_goto (tgt := 5) h dX2_sortsOf_66 rfl ?_
          rw [show srtStep key bits x = bits &&& sbN x.2.1 from by unfold srtStep; rw [if_pos c22, if_pos c48]] at ih hf hlt
          exact ih _ (by omega) hlt hf
theorem m_sortsOf (σ : MS) (s : SS) (n : Int) (hR : MRel σ s) (hI : SInv s n) (key : Int) (hk : -2147483648 ≤ key ∧ key ≤ 2147483647) : MCi yX2_sortsOf cX2_sortsOf 5 (some .int) 2 [.int (iI key)] σ (fun z σ' => z = (srtN (sC s).2.2.2.2 key : Int) ∧ σ' = σ) := by
  intro ad hok hm
  refine Ct.of (by decide) (EL.c1 rfl (EL.c1 rfl (EL.nn (EL.nn (EL.nn EL.n0))))) (fun Γ h hq hnm => ?_)
  refine v_bipush (n' := 2) h dX2_sortsOf_0 rfl (by decide) ?_
  refine v_istore2 (n' := 3) h dX2_sortsOf_2 rfl rfl ?_
  refine v_iconst (n' := 4) h dX2_sortsOf_3 rfl ?_
  refine v_istore3 (n' := 5) h dX2_sortsOf_4 rfl rfl ?_
  exact m_sortsOf_loop hk hok hm hR hI h hq _ 0 31 none (Nat.zero_add _) (by decide) rfl
def onesF (n : Nat) : Nat → Nat
  | 0 => 0
  | k + 1 => onesF n k + n / 2 ^ k % 2
def onesN (n : Nat) : Nat := onesF n 5
theorem onesF_le (n : Nat) : ∀ k, onesF n k ≤ k := by
  intro k
  induction k with
  | zero => exact Nat.le_refl _
  | succ k ih =>
    have := Nat.mod_lt (n / 2 ^ k) (show 0 < 2 by decide)
    unfold onesF
    omega
theorem m_ones_loop {Γ : GX} {hp : AH} {n : Nat} (hn : n < 32) (h : Ok0 cX2_ones yX2_ones.cls (some .int) (rmL 1) Γ) (hq : Rt (rI (fun z hp' => z = (onesN n : Int) ∧ hp' = hp)) 0 0 Γ) :
    ∀ (m k : Nat), k + m = 5 → V Γ 0 0 hp 4 [some (.int (iI (n : Int))), some (.int (iI (onesF n k : Int))), some (.int (iI (k : Int)))] [] := by
  intro m
  induction m with
  | zero =>
    intro k hk
    obtain rfl : k = 5 := by omega
    refine v_iload_n (n' := 5) h dX2_ones_4 rfl rfl ?_
    refine v_iconst (n' := 6) h dX2_ones_5 rfl ?_
    refine v_icmp_ge (n' := 9) (tgt := 23) h dX2_ones_6 rfl rfl (by omega) (by omega) (fun c6 => ?_) (fun c6 => ?_)
    · refine v_iload_n (n' := 24) h dX2_ones_23 rfl rfl ?_
      refine v_iret h hq dX2_ones_24 (Nat.le_refl _) (Nat.le_refl _) (ret_i ?_)
      exact ⟨rfl, rfl⟩
    · exact absurd (by decide) c6
  | succ m ih =>
    intro k hk
    have ih := ih (k + 1) (by omega)
    have ek : ((k + 1 : Nat) : Int) = (k : Int) + 1 := by omega
    have e2 : ((onesF n (k + 1) : Nat) : Int) = (onesF n k : Int) + ((n / 2 ^ k % 2 : Nat) : Int) := by
      show ((onesF n k + n / 2 ^ k % 2 : Nat) : Int) = _
      omega
    rw [ek, e2] at ih
    refine v_iload_n (n' := 5) h dX2_ones_4 rfl rfl ?_
    refine v_iconst (n' := 6) h dX2_ones_5 rfl ?_
    refine v_icmp_ge (n' := 9) (tgt := 23) h dX2_ones_6 rfl rfl (by omega) (by omega) (fun c6 => ?_) (fun c6 => ?_)
    · exact absurd c6 (by omega)
    · refine v_iload_n (n' := 10) h dX2_ones_9 rfl rfl ?_
      refine v_iload_n (n' := 11) h dX2_ones_10 rfl rfl ?_
      refine v_iload_n (n' := 12) h dX2_ones_11 rfl rfl ?_
      refine v_ishr (n' := 13) h dX2_ones_12 rfl (shr_nat (by omega) (by omega)) ?_
      refine v_iconst (n' := 14) h dX2_ones_13 rfl ?_
      refine v_iand (n' := 15) h dX2_ones_14 rfl (and_one _) ?_
      refine v_iadd (n' := 16) h dX2_ones_15 rfl ?_
      refine v_istore1 (n' := 17) h dX2_ones_16 rfl rfl ?_
      refine v_iinc2 (n' := 20) h dX2_ones_17 rfl rfl ?_
      refine v_goto (tgt := 4) h dX2_ones_20 rfl ?_
      exact ih
theorem m_ones (n : Nat) (hn : n < 32) : SCi yX2_ones cX2_ones 3 (some .int) 1 [.int (iI (n : Int))] (fun z => z = (onesN n : Int)) := by
  intro hp
  refine Ct.of (by decide) (EL.c1 rfl (EL.nn (EL.nn EL.n0))) (fun Γ h hq hnm => ?_)
  refine v_iconst (n' := 1) h dX2_ones_0 rfl ?_
  refine v_istore1 (n' := 2) h dX2_ones_1 rfl rfl ?_
  refine v_iconst (n' := 3) h dX2_ones_2 rfl ?_
  refine v_istore2 (n' := 4) h dX2_ones_3 rfl rfl ?_
  exact m_ones_loop hn h hq 5 0 (by omega)
def askW (bits : Nat) (w : Nat) : Int := if (onesN (bits &&& sbN (w : Int)) : Int) > (onesN bits : Int) - (onesN (bits &&& sbN (w : Int)) : Int) then (onesN (bits &&& sbN (w : Int)) : Int) else (onesN bits : Int) - (onesN (bits &&& sbN (w : Int)) : Int)
def askF (bits : Nat) : Nat → Int × Int
  | 0 => (-1, 6)
  | w + 1 => if askW bits w < (askF bits w).2 then ((w : Int), askW bits w) else askF bits w
def askV (bits : Nat) : Int := if bits = 0 then -1 else (askF bits 4).1
theorem askW_r (bits w : Nat) : -5 ≤ askW bits w ∧ askW bits w ≤ 5 := by
  have h1 := onesF_le bits 5
  have h2 := onesF_le (bits &&& sbN (w : Int)) 5
  unfold askW onesN
  split <;> omega
theorem askF_r (bits : Nat) : ∀ w, w ≤ 4 → (-1 ≤ (askF bits w).1 ∧ (askF bits w).1 ≤ 4) ∧ (-5 ≤ (askF bits w).2 ∧ (askF bits w).2 ≤ 6) := by
  intro w
  induction w with
  | zero => intro _; simp [askF]
  | succ w ih =>
    intro hw
    have := ih (by omega)
    have h2 := askW_r bits w
    unfold askF
    split
    · dsimp only; omega
    · exact this
theorem m_askOf_loop {Γ : GX} {σ : MS} {ad : Nat → Nat} {key : Int} {bits : Nat} (hb : bits < 32) (hb0 : bits ≠ 0) (hok : AdOk ad) (hm : MR σ) (h : Ok0 cX2_askOf yX2_askOf.cls (some .int) (rmL 3) Γ) (hq : Rt (PI ad (fun z σ' => z = askV bits ∧ σ' = σ)) 0 0 Γ) :
    ∀ (m w : Nat) (a6 a7 a8 : Option Value), w + m = 4 → V Γ 0 0 (mH ad σ) 15 [some (.ref (ad 50)), some (.int (iI key)), some (.int (iI (bits : Int))), some (.int (iI (askF bits w).1)), some (.int (iI (askF bits w).2)), some (.int (iI (w : Int))), a6, a7, a8] [] := by
  intro m
  induction m with
  | zero =>
    intro w a6 a7 a8 hw
    obtain rfl : w = 4 := by omega
    refine v_iload (n' := 17) h dX2_askOf_15 rfl rfl ?_
    refine v_iconst (n' := 18) h dX2_askOf_17 rfl ?_
    refine v_icmp_ge (n' := 21) (tgt := 98) h dX2_askOf_18 rfl rfl (by omega) (by omega) (fun c18 => ?_) (fun c18 => ?_)
    · refine v_iload_n (n' := 99) h dX2_askOf_98 rfl rfl ?_
      refine v_iret h hq dX2_askOf_99 (Nat.le_refl _) (Nat.le_refl _) (ret_mi hm ?_)
      exact ⟨by unfold askV; rw [if_neg hb0], rfl⟩
    · exact absurd (by decide) c18
  | succ m ih =>
    intro w a6 a7 a8 hw
    have hr := askF_r bits w (by omega)
    have hwr := askW_r bits w
    have ih := ih (w + 1)
    have ek : ((w + 1 : Nat) : Int) = (w : Int) + 1 := by omega
    have est : askF bits (w + 1) = if askW bits w < (askF bits w).2 then ((w : Int), askW bits w) else askF bits w := rfl
    rw [est, ek] at ih
    have h1 := onesF_le bits 5
    have h2 := onesF_le (bits &&& sbN (w : Int)) 5
    have h1 : onesN bits ≤ 5 := h1
    have h2 : onesN (bits &&& sbN (w : Int)) ≤ 5 := h2
    have hal : bits &&& sbN (w : Int) < 32 := Nat.lt_of_le_of_lt Nat.and_le_left hb
    have eW : askW bits w = if (onesN (bits &&& sbN (w : Int)) : Int) > (onesN bits : Int) - (onesN (bits &&& sbN (w : Int)) : Int) then (onesN (bits &&& sbN (w : Int)) : Int) else (onesN bits : Int) - (onesN (bits &&& sbN (w : Int)) : Int) := rfl
    refine v_iload (n' := 17) h dX2_askOf_15 rfl rfl ?_
    refine v_iconst (n' := 18) h dX2_askOf_17 rfl ?_
    refine v_icmp_ge (n' := 21) (tgt := 98) h dX2_askOf_18 rfl rfl (by omega) (by omega) (fun c18 => ?_) (fun c18 => ?_)
    · exact absurd c18 (by omega)
    · refine v_iload_n (n' := 22) h dX2_askOf_21 rfl rfl ?_
      refine v_if_eq (n' := 25) (tgt := 98) h dX2_askOf_22 rfl rfl (by omega) (fun c22 => ?_) (fun c22 => ?_)
      · exact absurd c22 (by omega)
      · refine v_iload_n (n' := 26) h dX2_askOf_25 rfl rfl ?_
        refine v_iload (n' := 28) h dX2_askOf_26 rfl rfl ?_
        refine vs_callI (n' := 31) h (m_sortsBy _ (by omega)) (lw_S q1342 q1343 q87 q1344) hdX2_sortsBy (by decide) ⟨Nat.zero_le _, Nat.zero_le _⟩ (Nat.le_of_ble_eq_true rfl) dX2_askOf_28 rfl rfl (fun z28 p28 => ?_)
        have p28 := p28.symm
        subst p28
        refine v_iand (n' := 32) h dX2_askOf_31 rfl (and_nat _ _) ?_
        refine vs_callI (n' := 35) h (m_ones _ hal) (lw_S q1349 q1350 q87 q1351) hdX2_ones (by decide) ⟨Nat.zero_le _, Nat.zero_le _⟩ (Nat.le_of_ble_eq_true rfl) dX2_askOf_32 rfl rfl (fun z32 p32 => ?_)
        have p32 := p32.symm
        subst p32
        refine v_istore6 (n' := 37) h dX2_askOf_35 rfl rfl ?_
        refine v_iload_n (n' := 38) h dX2_askOf_37 rfl rfl ?_
        refine vs_callI (n' := 41) h (m_ones _ hb) (lw_S q1349 q1350 q87 q1351) hdX2_ones (by decide) ⟨Nat.zero_le _, Nat.zero_le _⟩ (Nat.le_of_ble_eq_true rfl) dX2_askOf_38 rfl rfl (fun z38 p38 => ?_)
        have p38 := p38.symm
        subst p38
        refine v_iload (n' := 43) h dX2_askOf_41 rfl rfl ?_
        refine v_isub (n' := 44) h dX2_askOf_43 rfl ?_
        refine v_istore7 (n' := 46) h dX2_askOf_44 rfl rfl ?_
        refine v_iload (n' := 48) h dX2_askOf_46 rfl rfl ?_
        refine v_iload (n' := 50) h dX2_askOf_48 rfl rfl ?_
        refine v_icmp_le (n' := 53) (tgt := 58) h dX2_askOf_50 rfl rfl (by omega) (by omega) (fun c50 => ?_) (fun c50 => ?_)
        · rw [if_neg (by omega)] at eW
          refine v_iload (n' := 60) h dX2_askOf_58 rfl rfl ?_
          rw [← eW]
          refine v_istore8 (n' := 62) h dX2_askOf_60 rfl rfl ?_
          refine v_iload (n' := 64) h dX2_askOf_62 rfl rfl ?_
          refine v_iload (n' := 66) h dX2_askOf_64 rfl rfl ?_
          refine v_icmp_ge (n' := 69) (tgt := 74) h dX2_askOf_66 rfl rfl (by omega) (by omega) (fun c66 => ?_) (fun c66 => ?_)
          · refine v_iload_n (n' := 75) h dX2_askOf_74 rfl rfl ?_
            refine v_istore3 (n' := 76) h dX2_askOf_75 rfl rfl ?_
            refine v_iload (n' := 78) h dX2_askOf_76 rfl rfl ?_
            refine v_iload (n' := 80) h dX2_askOf_78 rfl rfl ?_
            refine v_icmp_ge (n' := 83) (tgt := 88) h dX2_askOf_80 rfl rfl (by omega) (by omega) (fun c80 => ?_) (fun c80 => ?_)
            · refine v_iload (n' := 90) h dX2_askOf_88 rfl rfl ?_
              refine v_istore4 (n' := 92) h dX2_askOf_90 rfl rfl ?_
              refine v_iinc5 (n' := 95) h dX2_askOf_92 rfl rfl ?_
              refine v_goto (tgt := 15) h dX2_askOf_95 rfl ?_
              rw [if_neg (by omega)] at ih
              exact ih _ _ _ (by omega)
            · exact absurd c66 (by omega)
          · refine v_iload (n' := 71) h dX2_askOf_69 rfl rfl ?_
            refine v_goto (tgt := 75) h dX2_askOf_71 rfl ?_
            refine v_istore3 (n' := 76) h dX2_askOf_75 rfl rfl ?_
            refine v_iload (n' := 78) h dX2_askOf_76 rfl rfl ?_
            refine v_iload (n' := 80) h dX2_askOf_78 rfl rfl ?_
            refine v_icmp_ge (n' := 83) (tgt := 88) h dX2_askOf_80 rfl rfl (by omega) (by omega) (fun c80 => ?_) (fun c80 => ?_)
            · exact absurd c80 (by omega)
            · refine v_iload (n' := 85) h dX2_askOf_83 rfl rfl ?_
              refine v_goto (tgt := 90) h dX2_askOf_85 rfl ?_
              refine v_istore4 (n' := 92) h dX2_askOf_90 rfl rfl ?_
              refine v_iinc5 (n' := 95) h dX2_askOf_92 rfl rfl ?_
              refine v_goto (tgt := 15) h dX2_askOf_95 rfl ?_
              rw [if_pos (by omega)] at ih
              exact ih _ _ _ (by omega)
        · rw [if_pos (by omega)] at eW
          refine v_iload (n' := 55) h dX2_askOf_53 rfl rfl ?_
          refine v_goto (tgt := 60) h dX2_askOf_55 rfl ?_
          rw [← eW]
          refine v_istore8 (n' := 62) h dX2_askOf_60 rfl rfl ?_
          refine v_iload (n' := 64) h dX2_askOf_62 rfl rfl ?_
          refine v_iload (n' := 66) h dX2_askOf_64 rfl rfl ?_
          refine v_icmp_ge (n' := 69) (tgt := 74) h dX2_askOf_66 rfl rfl (by omega) (by omega) (fun c66 => ?_) (fun c66 => ?_)
          · refine v_iload_n (n' := 75) h dX2_askOf_74 rfl rfl ?_
            refine v_istore3 (n' := 76) h dX2_askOf_75 rfl rfl ?_
            refine v_iload (n' := 78) h dX2_askOf_76 rfl rfl ?_
            refine v_iload (n' := 80) h dX2_askOf_78 rfl rfl ?_
            refine v_icmp_ge (n' := 83) (tgt := 88) h dX2_askOf_80 rfl rfl (by omega) (by omega) (fun c80 => ?_) (fun c80 => ?_)
            · refine v_iload (n' := 90) h dX2_askOf_88 rfl rfl ?_
              refine v_istore4 (n' := 92) h dX2_askOf_90 rfl rfl ?_
              refine v_iinc5 (n' := 95) h dX2_askOf_92 rfl rfl ?_
              refine v_goto (tgt := 15) h dX2_askOf_95 rfl ?_
              rw [if_neg (by omega)] at ih
              exact ih _ _ _ (by omega)
            · exact absurd c66 (by omega)
          · refine v_iload (n' := 71) h dX2_askOf_69 rfl rfl ?_
            refine v_goto (tgt := 75) h dX2_askOf_71 rfl ?_
            refine v_istore3 (n' := 76) h dX2_askOf_75 rfl rfl ?_
            refine v_iload (n' := 78) h dX2_askOf_76 rfl rfl ?_
            refine v_iload (n' := 80) h dX2_askOf_78 rfl rfl ?_
            refine v_icmp_ge (n' := 83) (tgt := 88) h dX2_askOf_80 rfl rfl (by omega) (by omega) (fun c80 => ?_) (fun c80 => ?_)
            · exact absurd c80 (by omega)
            · refine v_iload (n' := 85) h dX2_askOf_83 rfl rfl ?_
              refine v_goto (tgt := 90) h dX2_askOf_85 rfl ?_
              refine v_istore4 (n' := 92) h dX2_askOf_90 rfl rfl ?_
              refine v_iinc5 (n' := 95) h dX2_askOf_92 rfl rfl ?_
              refine v_goto (tgt := 15) h dX2_askOf_95 rfl ?_
              rw [if_pos (by omega)] at ih
              exact ih _ _ _ (by omega)
theorem m_askOf (σ : MS) (s : SS) (n : Int) (hR : MRel σ s) (hI : SInv s n) (key : Int) (hk : -2147483648 ≤ key ∧ key ≤ 2147483647) : MCi yX2_askOf cX2_askOf 9 (some .int) 3 [.int (iI key)] σ (fun z σ' => z = askV (srtN (sC s).2.2.2.2 key) ∧ σ' = σ) := by
  intro ad hok hm
  have hlt := srtN_lt (sC s).2.2.2.2 key
  refine Ct.of (by decide) (EL.c1 rfl (EL.c1 rfl (EL.nn (EL.nn (EL.nn (EL.nn (EL.nn (EL.nn (EL.nn EL.n0))))))))) (fun Γ h hq hnm => ?_)
  by_cases c0 : srtN (sC s).2.2.2.2 key = 0
  · have _u := c0
    refine v_aload_n (n' := 1) h dX2_askOf_0 rfl rfl ?_
    refine v_iload_n (n' := 2) h dX2_askOf_1 rfl rfl ?_
    refine vm_callI (n' := 5) h hok hm (m_sortsOf _ _ _ hR hI key hk) rfl (lw_V q1338 q1340 qs75 q87 q1341) hdX2_sortsOf (by decide) ⟨Nat.zero_le _, Nat.zero_le _⟩ (Nat.le_of_ble_eq_true rfl) dX2_askOf_2 rfl rfl (fun z2 s2 p2 m2 => ?_)
    obtain ⟨ez2, fz2⟩ := p2
    have ez2 := ez2.symm
    have fz2 := fz2.symm
    subst ez2 fz2
    refine v_istore2 (n' := 6) h dX2_askOf_5 rfl rfl ?_
    refine v_iconst (n' := 7) h dX2_askOf_6 rfl ?_
    refine v_istore3 (n' := 8) h dX2_askOf_7 rfl rfl ?_
    refine v_bipush (n' := 10) h dX2_askOf_8 rfl (by decide) ?_
    refine v_istore4 (n' := 12) h dX2_askOf_10 rfl rfl ?_
    refine v_iconst (n' := 13) h dX2_askOf_12 rfl ?_
    refine v_istore5 (n' := 15) h dX2_askOf_13 rfl rfl ?_
    refine v_iload (n' := 17) h dX2_askOf_15 rfl rfl ?_
    refine v_iconst (n' := 18) h dX2_askOf_17 rfl ?_
    refine v_icmp_ge (n' := 21) (tgt := 98) h dX2_askOf_18 rfl rfl (by omega) (by omega) (fun c18 => ?_) (fun c18 => ?_)
    · exact absurd c18 (by decide)
    · refine v_iload_n (n' := 22) h dX2_askOf_21 rfl rfl ?_
      refine v_if_eq (n' := 25) (tgt := 98) h dX2_askOf_22 rfl rfl (by omega) (fun c22 => ?_) (fun c22 => ?_)
      · refine v_iload_n (n' := 99) h dX2_askOf_98 rfl rfl ?_
        refine v_iret h hq dX2_askOf_99 (Nat.le_refl _) (Nat.le_refl _) (ret_mi m2 ?_)
        exact ⟨by unfold askV; rw [if_pos c0], rfl⟩
      · exact absurd (show ((srtN (sC s).2.2.2.2 key : Nat) : Int) = 0 by omega) c22
  · have _u := c0
    refine v_aload_n (n' := 1) h dX2_askOf_0 rfl rfl ?_
    refine v_iload_n (n' := 2) h dX2_askOf_1 rfl rfl ?_
    refine vm_callI (n' := 5) h hok hm (m_sortsOf _ _ _ hR hI key hk) rfl (lw_V q1338 q1340 qs75 q87 q1341) hdX2_sortsOf (by decide) ⟨Nat.zero_le _, Nat.zero_le _⟩ (Nat.le_of_ble_eq_true rfl) dX2_askOf_2 rfl rfl (fun z2 s2 p2 m2 => ?_)
    obtain ⟨ez2, fz2⟩ := p2
    have ez2 := ez2.symm
    have fz2 := fz2.symm
    subst ez2 fz2
    refine v_istore2 (n' := 6) h dX2_askOf_5 rfl rfl ?_
    refine v_iconst (n' := 7) h dX2_askOf_6 rfl ?_
    refine v_istore3 (n' := 8) h dX2_askOf_7 rfl rfl ?_
    refine v_bipush (n' := 10) h dX2_askOf_8 rfl (by decide) ?_
    refine v_istore4 (n' := 12) h dX2_askOf_10 rfl rfl ?_
    refine v_iconst (n' := 13) h dX2_askOf_12 rfl ?_
    refine v_istore5 (n' := 15) h dX2_askOf_13 rfl rfl ?_
    exact m_askOf_loop hlt c0 hok m2 h hq 4 0 none none none (by omega)
def oSorts (s : SS) (key what : Int) : Int := if ¬ ((0 ≤ key ∧ key ≤ 99) ∧ (0 ≤ what ∧ what ≤ 1)) then -102 else if what = 0 then (srtN (sC s).2.2.2.2 key : Int) else askV (srtN (sC s).2.2.2.2 key)
theorem m_sorts (σ : MS) (s : SS) (n : Int) (hR : MRel σ s) (hI : SInv s n) (key what : Int) (hk : -2147483648 ≤ key ∧ key ≤ 2147483647) (hw : -2147483648 ≤ what ∧ what ≤ 2147483647) : MCi yX2_sorts cX2_sorts 3 (some .int) 4 [.int (iI key), .int (iI what)] σ (fun z σ' => z = oSorts s key what ∧ σ' = σ) := by
  intro ad hok hm
  refine Ct.of (by decide) (EL.c1 rfl (EL.c1 rfl (EL.c1 rfl EL.n0))) (fun Γ h hq hnm => ?_)
  refine v_iload_n (n' := 1) h dX2_sorts_0 rfl rfl ?_
  refine v_i2l (n' := 2) h dX2_sorts_1 rfl (by omega) ?_
  refine v_lconst (n' := 3) (y := 0) h dX2_sorts_2 rfl rfl ?_
  refine v_ldc2 (n' := 6) (z := 99) h dX2_sorts_3 rfl q1220 (by decide) ?_
  refine vs_callI (n' := 9) h (m_in _ _ _ (by omega) (by omega) (by omega)) (lw_S q1093 q1094 q87 q1095) hdX2_in (by decide) ⟨Nat.zero_le _, Nat.zero_le _⟩ (Nat.le_of_ble_eq_true rfl) dX2_sorts_6 rfl rfl (fun z6 p6 => ?_)
  have p6 := p6.symm
  subst p6
  refine v_bif_eq (n' := 12) (tgt := 22) h dX2_sorts_9 rfl rfl (fun c9 => ?_) (fun c9 => ?_)
  · refine v_bipush (n' := 24) h dX2_sorts_22 rfl (by decide) ?_
    refine v_iret h hq dX2_sorts_24 (Nat.le_refl _) (Nat.le_refl _) (ret_mi hm ?_)
    exact ⟨by unfold oSorts; rw [if_pos (fun z => c9 z.1)], rfl⟩
  · refine v_iload_n (n' := 13) h dX2_sorts_12 rfl rfl ?_
    refine v_i2l (n' := 14) h dX2_sorts_13 rfl (by omega) ?_
    refine v_lconst (n' := 15) (y := 0) h dX2_sorts_14 rfl rfl ?_
    refine v_lconst (n' := 16) (y := 1) h dX2_sorts_15 rfl rfl ?_
    refine vs_callI (n' := 19) h (m_in _ _ _ (by omega) (by omega) (by omega)) (lw_S q1093 q1094 q87 q1095) hdX2_in (by decide) ⟨Nat.zero_le _, Nat.zero_le _⟩ (Nat.le_of_ble_eq_true rfl) dX2_sorts_16 rfl rfl (fun z16 p16 => ?_)
    have p16 := p16.symm
    subst p16
    refine v_bif_ne (n' := 22) (tgt := 25) h dX2_sorts_19 rfl rfl (fun c19 => ?_) (fun c19 => ?_)
    · refine v_iload_n (n' := 26) h dX2_sorts_25 rfl rfl ?_
      refine v_if_ne (n' := 29) (tgt := 37) h dX2_sorts_26 rfl rfl (by omega) (fun c26 => ?_) (fun c26 => ?_)
      · refine v_aload_n (n' := 38) h dX2_sorts_37 rfl rfl ?_
        refine v_iload_n (n' := 39) h dX2_sorts_38 rfl rfl ?_
        refine vm_callI (n' := 42) h hok hm (m_askOf _ _ _ hR hI key hk) rfl (lw_V q1345 q1347 qs76 q87 q1348) hdX2_askOf (by decide) ⟨Nat.zero_le _, Nat.zero_le _⟩ (Nat.le_of_ble_eq_true rfl) dX2_sorts_39 rfl rfl (fun z39 s39 p39 m39 => ?_)
        obtain ⟨ez39, fz39⟩ := p39
        have ez39 := ez39.symm
        have fz39 := fz39.symm
        subst ez39 fz39
        refine v_iret h hq dX2_sorts_42 (Nat.le_refl _) (Nat.le_refl _) (ret_mi m39 ?_)
        exact ⟨by unfold oSorts; rw [if_neg (fun z => z ⟨c9, c19⟩), if_neg c26], rfl⟩
      · refine v_aload_n (n' := 30) h dX2_sorts_29 rfl rfl ?_
        refine v_iload_n (n' := 31) h dX2_sorts_30 rfl rfl ?_
        refine vm_callI (n' := 34) h hok hm (m_sortsOf _ _ _ hR hI key hk) rfl (lw_V q1338 q1340 qs75 q87 q1341) hdX2_sortsOf (by decide) ⟨Nat.zero_le _, Nat.zero_le _⟩ (Nat.le_of_ble_eq_true rfl) dX2_sorts_31 rfl rfl (fun z31 s31 p31 m31 => ?_)
        obtain ⟨ez31, fz31⟩ := p31
        have ez31 := ez31.symm
        have fz31 := fz31.symm
        subst ez31 fz31
        refine v_goto (tgt := 42) h dX2_sorts_34 rfl ?_
        refine v_iret h hq dX2_sorts_42 (Nat.le_refl _) (Nat.le_refl _) (ret_mi m31 ?_)
        exact ⟨by unfold oSorts; rw [if_neg (fun z => z ⟨c9, c19⟩), if_pos c26], rfl⟩
    · refine v_bipush (n' := 24) h dX2_sorts_22 rfl (by decide) ?_
      refine v_iret h hq dX2_sorts_24 (Nat.le_refl _) (Nat.le_refl _) (ret_mi hm ?_)
      exact ⟨by unfold oSorts; rw [if_pos (fun z => c19 z.2)], rfl⟩
