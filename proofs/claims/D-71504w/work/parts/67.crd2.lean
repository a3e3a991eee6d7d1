/-! THE READER: a digit, what has been told -/
set_option maxRecDepth 100000
theorem CtT.d {de : Nat} {y : MethodName} {b : ByteArray} {nL : Nat} {ret : Option FieldType} {rm : Room} {As : List Value} {hp : AH} {postx : Nat → AH → Prop} (h : CtT de y b nL ret rm As hp postx) {D : DD} (e : D.2.2.1 = de) : CtT D.2.2.1 y b nL ret rm As hp postx := by rw [e]; exact h
theorem c_digit (de : Nat) (hp : AH) (r ax el : Nat) (p a b f n : Int) (g : Int → Int) (hr : hp r = some (rO p a b f el ax)) (hP : PG hp ax n g) (hp0 : 0 ≤ p ∧ p ≤ 54) (lo hi : Int) (hlo : 0 ≤ lo ∧ lo ≤ 100) (hhi : 0 ≤ hi ∧ hi ≤ 100) (hok : lo ≤ nx g n p - 48 ∧ nx g n p - 48 ≤ hi) : CtE de yX3_digit cX3_digit 3 (some .int) (rmK 5 0 0) [.ref r, .int (iI lo), .int (iI hi)] hp (rI (fun z hp' => z = nx g n p - 48 ∧ hp' = upH hp r (rO (p + 1) a b f el ax))) := by
  have hg := nx_r (g := g) (n := n) (p := p) hP.2.1
  have hlt := nx_lt (g := g) (n := n) (p := p) (by omega)
  have hP2 := hP
  obtain ⟨h1, h2, A, t, kt, σ, h3, h4, h5, h6⟩ := hP2
  have nax : ax ≠ r := cell_ne h3 hr (fun z => by have := congrArg Prod.fst (Sum.inr.inj z); simp at this)
  have nA2 : A 2 ≠ r := cell_ne h4 hr (fun z => by cases z)
  have e1 : p + 1 - 1 = p := by omega
  have e6 := h6 p (by omega) (by omega)
  refine CtE.of (by decide) (EL.c1 rfl (EL.c1 rfl (EL.c1 rfl EL.n0))) (fun Γ h hq hnm hde => ?_)
  refine v_aload_n (n' := 1) h dX3_digit_0 rfl rfl ?_
  refine v_aload_n (n' := 2) h dX3_digit_1 rfl rfl ?_
  refine vc_callV (n' := 5) (ci := 3) h ((c_next de hp r ax el p a b f n g hr hP hp0).d hde) rfl (by first | assumption | exact upH_s | exact (upH_n (by assumption)).trans (by assumption) | exact (upH_n (by assumption)).trans upH_s | exact (upH_n (by assumption)).trans ((upH_n (by assumption)).trans (by assumption))) (lw_V q306 q308 qs1 q88 q309) hdX3_next ⟨by omega, by decide⟩ ⟨by omega, by omega⟩ (Nat.le_of_ble_eq_true rfl) dX3_digit_2 rfl (eI fun z2 hp2 p2 => ?_) rfl
  obtain ⟨ez2, fz2⟩ := p2
  have ez2 := ez2.symm
  have fz2 := fz2.symm
  subst ez2 fz2
  refine v_bipush (n' := 7) h dX3_digit_5 rfl (by decide) ?_
  refine v_isub (n' := 8) h dX3_digit_7 rfl ?_
  refine v_iload_n (n' := 9) h dX3_digit_8 rfl rfl ?_
  refine v_iload_n (n' := 10) h dX3_digit_9 rfl rfl ?_
  refine vc_callSN (n' := 13) h ((c_in de hp (nx g n p - 48) lo hi (by omega) (by omega) (by omega)).d hde) q257 q82 q310 q256 hdX0_in ⟨by omega, by decide⟩ ⟨by omega, by omega⟩ (Nat.le_of_ble_eq_true rfl) dX3_digit_10 rfl (eI fun z10 hp10 p10 => ?_) rfl
  obtain ⟨ez10, fz10⟩ := p10
  have ez10 := ez10.symm
  have fz10 := fz10.symm
  subst ez10 fz10
  rw [bi_t hok]
  refine vc_callV (n' := 16) (ci := 3) h ((c_want de hp r).d hde) rfl (by first | assumption | exact upH_s | exact (upH_n (by assumption)).trans (by assumption) | exact (upH_n (by assumption)).trans upH_s | exact (upH_n (by assumption)).trans ((upH_n (by assumption)).trans (by assumption))) (lw_V q311 q313 qs2 q88 q314) hdX3_want ⟨by omega, by decide⟩ ⟨by omega, by omega⟩ (Nat.le_of_ble_eq_true rfl) dX3_digit_13 rfl (eV fun hp13 p13 => ?_) rfl
  have p13 := p13.symm
  subst p13
  refine v_aload_n (n' := 17) h dX3_digit_16 rfl rfl ?_
  refine v_dup (n' := 18) h dX3_digit_17 rfl rfl ?_
  refine v_get (n' := 21) (ci := 3) h rfl in_X3 0 (by decide) q275 rfl dX3_digit_18 rfl (by first | assumption | exact upH_s | exact (upH_n (by assumption)).trans (by assumption) | exact (upH_n (by assumption)).trans upH_s | exact (upH_n (by assumption)).trans ((upH_n (by assumption)).trans (by assumption))) (by rfl) ?_
  refine v_iconst (n' := 22) h dX3_digit_21 rfl ?_
  refine v_iadd (n' := 23) h dX3_digit_22 rfl ?_
  refine v_put (n' := 26) (ci := 3) h rfl in_X3 tyX3 tyX3_ok nmX3 0 (by decide) q275 rfl rfl dX3_digit_23 rfl (by first | assumption | exact upH_s | exact (upH_n (by assumption)).trans (by assumption) | exact (upH_n (by assumption)).trans upH_s | exact (upH_n (by assumption)).trans ((upH_n (by assumption)).trans (by assumption))) (by show 0 < 6; decide) rfl rfl ?_
  refine v_aload_n (n' := 27) h dX3_digit_26 rfl rfl ?_
  refine v_get (n' := 30) (ci := 3) h rfl in_X3 5 (by decide) q284 rfl dX3_digit_27 rfl (by first | assumption | exact upH_s | exact (upH_n (by assumption)).trans (by assumption) | exact (upH_n (by assumption)).trans upH_s | exact (upH_n (by assumption)).trans ((upH_n (by assumption)).trans (by assumption))) (by rfl) ?_
  refine v_getN (n' := 33) (ci := 0) h rfl in_X0 2 (by decide) q190 rfl dX3_digit_30 rfl (by first | assumption | exact upH_s | exact (upH_n (by assumption)).trans (by assumption) | exact (upH_n (by assumption)).trans upH_s | exact (upH_n (by assumption)).trans ((upH_n (by assumption)).trans (by assumption))) (by rfl) ?_
  refine v_aload_n (n' := 34) h dX3_digit_33 rfl rfl ?_
  refine v_get (n' := 37) (ci := 3) h rfl in_X3 0 (by decide) q275 rfl dX3_digit_34 rfl (by first | assumption | exact upH_s | exact (upH_n (by assumption)).trans (by assumption) | exact (upH_n (by assumption)).trans upH_s | exact (upH_n (by assumption)).trans ((upH_n (by assumption)).trans (by assumption))) (by rfl) ?_
  refine v_iconst (n' := 38) h dX3_digit_37 rfl ?_
  refine v_isub (n' := 39) h dX3_digit_38 rfl ?_
  refine v_gbald (n' := 40) h dX3_digit_39 rfl (by first | assumption | exact upH_s | exact (upH_n (by assumption)).trans (by assumption) | exact (upH_n (by assumption)).trans upH_s | exact (upH_n (by assumption)).trans ((upH_n (by assumption)).trans (by assumption))) (by omega) (by omega) ?_
  refine v_bipush (n' := 42) h dX3_digit_40 rfl (by decide) ?_
  refine v_isub (n' := 43) h dX3_digit_42 rfl ?_
  refine v_iret h hq dX3_digit_43 (by omega) (by omega) (ret_i ?_)
  exact ⟨by rw [e1, e6, hlt.2], rfl⟩
theorem t_digit (de : Nat) (hp : AH) (r ax el : Nat) (p a b f n : Int) (g : Int → Int) (hr : hp r = some (rO p a b f el ax)) (hP : PG hp ax n g) (hp0 : 0 ≤ p ∧ p ≤ 54) (lo hi : Int) (hlo : 0 ≤ lo ∧ lo ≤ 100) (hhi : 0 ≤ hi ∧ hi ≤ 100) (hok : ¬ (lo ≤ nx g n p - 48 ∧ nx g n p - 48 ≤ hi)) : CtT de yX3_digit cX3_digit 3 (some .int) (rmK 5 1 7) [.ref r, .int (iI lo), .int (iI hi)] hp (fun x hp' => StpO hp' x p ∧ Frm (Fsh hp) hp hp') := by
  have hg := nx_r (g := g) (n := n) (p := p) hP.2.1
  refine CtT.of (by decide) (EL.c1 rfl (EL.c1 rfl (EL.c1 rfl EL.n0))) (fun Γ h hq hnm hde hxt => ?_)
  refine v_aload_n (n' := 1) h dX3_digit_0 rfl rfl ?_
  refine v_aload_n (n' := 2) h dX3_digit_1 rfl rfl ?_
  refine vc_callV (n' := 5) (ci := 3) h ((c_next de hp r ax el p a b f n g hr hP hp0).d hde) rfl (by first | assumption | exact upH_s | exact (upH_n (by assumption)).trans (by assumption) | exact (upH_n (by assumption)).trans upH_s | exact (upH_n (by assumption)).trans ((upH_n (by assumption)).trans (by assumption))) (lw_V q306 q308 qs1 q88 q309) hdX3_next ⟨by omega, by decide⟩ ⟨by omega, by omega⟩ (Nat.le_of_ble_eq_true rfl) dX3_digit_2 rfl (eI fun z2 hp2 p2 => ?_) rfl
  obtain ⟨ez2, fz2⟩ := p2
  have ez2 := ez2.symm
  have fz2 := fz2.symm
  subst ez2 fz2
  refine v_bipush (n' := 7) h dX3_digit_5 rfl (by decide) ?_
  refine v_isub (n' := 8) h dX3_digit_7 rfl ?_
  refine v_iload_n (n' := 9) h dX3_digit_8 rfl rfl ?_
  refine v_iload_n (n' := 10) h dX3_digit_9 rfl rfl ?_
  refine vc_callSN (n' := 13) h ((c_in de hp (nx g n p - 48) lo hi (by omega) (by omega) (by omega)).d hde) q257 q82 q310 q256 hdX0_in ⟨by omega, by decide⟩ ⟨by omega, by omega⟩ (Nat.le_of_ble_eq_true rfl) dX3_digit_10 rfl (eI fun z10 hp10 p10 => ?_) rfl
  obtain ⟨ez10, fz10⟩ := p10
  have ez10 := ez10.symm
  have fz10 := fz10.symm
  subst ez10 fz10
  rw [bi_f hok]
  refine vt_callV (ci := 3) h ((t_want de hp r ax el p a b f hr).d hde) rfl (by first | assumption | exact upH_s | exact (upH_n (by assumption)).trans (by assumption) | exact (upH_n (by assumption)).trans upH_s | exact (upH_n (by assumption)).trans ((upH_n (by assumption)).trans (by assumption))) (lw_V q311 q313 qs2 q88 q314) q314 q88 hdX3_want ⟨by omega, by decide⟩ ⟨by omega, by omega⟩ (Nat.le_of_ble_eq_true rfl) dX3_digit_13 (fun x13 hp13 p13 => ?_) rfl
  exact VT.out h hq hxt rfl rfl p13
theorem or_1 (P : Prop) : iI (bi P) ||| iI 1 = iI 1 := by rcases bi_01 P with e | e <;> rw [e] <;> decide
theorem or_0 (P : Prop) : iI (bi P) ||| iI 0 = iI (bi P) := by rcases bi_01 P with e | e <;> rw [e] <;> decide
theorem c_isTold (de : Nat) (hp : AH) (W : Nat → Prop) (r ax el : Nat) (p a b f : Int) (xs : List Nat) (kf : Nat → Int) (hr : hp r = some (rO p a b f el ax)) (hl : Ls hp W de el xs) (hx : xs.length ≤ 8) (hE : ∀ j y, xs[j]? = some y → ∃ (kd : Nat) (v : Int), kd < 5 ∧ hp y = some (eO kd (kf j) v none none)) (hk : ∀ j, j < xs.length → 0 ≤ kf j ∧ kf j ≤ 1000) (key : Int) (hkey : -1000 ≤ key ∧ key ≤ 1000) : CtE de yX3_isTold cX3_isTold 4 (some .boolean) (rmK 4 0 0) [.ref r, .int (iI key)] hp (rI (fun z hp' => z = bi (∃ i : Nat, i < xs.length ∧ kf i = key) ∧ hp' = hp)) := by
  have hl2 := hl
  obtain ⟨arr, hl1, -, -⟩ := hl2
  refine CtE.of (by decide) (EL.c1 rfl (EL.c1 rfl (EL.nn (EL.nn EL.n0)))) (fun Γ h hq hnm hde => ?_)
  have loop : ∀ (m j : Nat), j + m = xs.length → V Γ 0 0 hp 4 [some (.ref r), some (.int (iI key)), some (.int (iI (bi (∃ i : Nat, i < j ∧ kf i = key)))), some (.int (iI j))] [] := by
    intro m
    induction m with
    | zero =>
      intro j hj
      obtain rfl : j = xs.length := by omega
      refine v_iload_n (n' := 5) h dX3_isTold_4 rfl rfl ?_
      refine v_aload_n (n' := 6) h dX3_isTold_5 rfl rfl ?_
      refine v_get (n' := 9) (ci := 3) h rfl in_X3 4 (by decide) q282 rfl dX3_isTold_6 rfl (by first | assumption | exact upH_s | exact (upH_n (by assumption)).trans (by assumption) | exact (upH_n (by assumption)).trans upH_s | exact (upH_n (by assumption)).trans ((upH_n (by assumption)).trans (by assumption))) (by rfl) ?_
      refine vc_callV (n' := 12) (ci := 10) h ((c_size de hp el _ _ arr hl1).d hde) rfl (by first | assumption | exact upH_s | exact (upH_n (by assumption)).trans (by assumption) | exact (upH_n (by assumption)).trans upH_s | exact (upH_n (by assumption)).trans ((upH_n (by assumption)).trans (by assumption))) (lw_V q393 q394 q395 q86 q396) hdJ2_size ⟨by omega, by decide⟩ ⟨by omega, by omega⟩ (Nat.le_of_ble_eq_true rfl) dX3_isTold_9 rfl (eI fun z9 hp9 p9 => ?_) rfl
      obtain ⟨ez9, fz9⟩ := p9
      have ez9 := ez9.symm
      have fz9 := fz9.symm
      subst ez9 fz9
      refine v_icmp_ge (n' := 15) (tgt := 47) h dX3_isTold_12 rfl rfl (by omega) (by omega) (fun c12 => ?_) (fun c12 => ?_)
      · refine v_iload_n (n' := 48) h dX3_isTold_47 rfl rfl ?_
        refine v_zret h hq dX3_isTold_48 (bi_01 _) (by omega) (by omega) (ret_i ?_)
        exact ⟨rfl, rfl⟩
      · exact absurd (Int.le_refl _) c12
    | succ m ih =>
      intro j hj
      have hjl : j < xs.length := by omega
      have hy : xs[j]? = some xs[j] := List.getElem?_eq_getElem hjl
      obtain ⟨kd, v, hkd, hy2⟩ := hE j _ hy
      have hkj := hk j hjl
      have ih2 := ih (j + 1) (by omega)
      rw [show ((j + 1 : Nat) : Int) = (j : Int) + 1 by omega] at ih2
      refine v_iload_n (n' := 5) h dX3_isTold_4 rfl rfl ?_
      refine v_aload_n (n' := 6) h dX3_isTold_5 rfl rfl ?_
      refine v_get (n' := 9) (ci := 3) h rfl in_X3 4 (by decide) q282 rfl dX3_isTold_6 rfl (by first | assumption | exact upH_s | exact (upH_n (by assumption)).trans (by assumption) | exact (upH_n (by assumption)).trans upH_s | exact (upH_n (by assumption)).trans ((upH_n (by assumption)).trans (by assumption))) (by rfl) ?_
      refine vc_callV (n' := 12) (ci := 10) h ((c_size de hp el _ _ arr hl1).d hde) rfl (by first | assumption | exact upH_s | exact (upH_n (by assumption)).trans (by assumption) | exact (upH_n (by assumption)).trans upH_s | exact (upH_n (by assumption)).trans ((upH_n (by assumption)).trans (by assumption))) (lw_V q393 q394 q395 q86 q396) hdJ2_size ⟨by omega, by decide⟩ ⟨by omega, by omega⟩ (Nat.le_of_ble_eq_true rfl) dX3_isTold_9 rfl (eI fun z9 hp9 p9 => ?_) rfl
      obtain ⟨ez9, fz9⟩ := p9
      have ez9 := ez9.symm
      have fz9 := fz9.symm
      subst ez9 fz9
      refine v_icmp_ge (n' := 15) (tgt := 47) h dX3_isTold_12 rfl rfl (by omega) (by omega) (fun c12 => ?_) (fun c12 => ?_)
      · omega
      · refine v_iload_n (n' := 16) h dX3_isTold_15 rfl rfl ?_
        refine v_aload_n (n' := 17) h dX3_isTold_16 rfl rfl ?_
        refine v_get (n' := 20) (ci := 3) h rfl in_X3 4 (by decide) q282 rfl dX3_isTold_17 rfl (by first | assumption | exact upH_s | exact (upH_n (by assumption)).trans (by assumption) | exact (upH_n (by assumption)).trans upH_s | exact (upH_n (by assumption)).trans ((upH_n (by assumption)).trans (by assumption))) (by rfl) ?_
        refine v_iload_n (n' := 21) h dX3_isTold_20 rfl rfl ?_
        refine vc_callV (n' := 24) (ci := 10) h ((c_get de hp W el xs j xs[j] hl hy (by omega)).d hde) rfl (by first | assumption | exact upH_s | exact (upH_n (by assumption)).trans (by assumption) | exact (upH_n (by assumption)).trans upH_s | exact (upH_n (by assumption)).trans ((upH_n (by assumption)).trans (by assumption))) (lw_V q397 q398 q399 q86 q400) hdJ2_get ⟨by omega, by decide⟩ ⟨by omega, by omega⟩ (Nat.le_of_ble_eq_true rfl) dX3_isTold_21 rfl (eR fun z21 hp21 p21 => ?_) rfl
        obtain ⟨ez21, fz21⟩ := p21
        have ez21 := ez21.symm
        have fz21 := fz21.symm
        subst ez21 fz21
        refine v_castE (n' := 27) h q411 dX3_isTold_24 rfl (by first | assumption | exact upH_s | exact (upH_n (by assumption)).trans (by assumption) | exact (upH_n (by assumption)).trans upH_s | exact (upH_n (by assumption)).trans ((upH_n (by assumption)).trans (by assumption))) (by omega) ?_
        refine v_ekey (n' := 30) h q426 dX3_isTold_27 rfl (by first | assumption | exact upH_s | exact (upH_n (by assumption)).trans (by assumption) | exact (upH_n (by assumption)).trans upH_s | exact (upH_n (by assumption)).trans ((upH_n (by assumption)).trans (by assumption))) (by omega) ?_
        refine v_iload_n (n' := 31) h dX3_isTold_30 rfl rfl ?_
        refine v_icmp_ne (n' := 34) (tgt := 38) h dX3_isTold_31 rfl rfl (by omega) (by omega) (fun c31 => ?_) (fun c31 => ?_)
        · refine v_iconst (n' := 39) h dX3_isTold_38 rfl ?_
          refine v_ior (n' := 40) h dX3_isTold_39 rfl (or_0 _) ?_
          refine v_istore2 (n' := 41) h dX3_isTold_40 rfl rfl ?_
          refine v_iinc3 (n' := 44) h dX3_isTold_41 rfl rfl ?_
          refine v_goto (tgt := 4) h dX3_isTold_44 rfl ?_
          refine V.cast ?_ rfl ih2
          rw [bi_c (show (∃ i : Nat, i < j ∧ kf i = key) ↔ (∃ i : Nat, i < j + 1 ∧ kf i = key) from ⟨fun ⟨i, i1, i2⟩ => ⟨i, by omega, i2⟩, fun ⟨i, i1, i2⟩ => ⟨i, by
            have : i ≠ j := fun z => c31 (by rw [← z]; exact i2)
            omega, i2⟩⟩)]
        · refine v_iconst (n' := 35) h dX3_isTold_34 rfl ?_
          refine v_goto (tgt := 39) h dX3_isTold_35 rfl ?_
          refine v_ior (n' := 40) h dX3_isTold_39 rfl (or_1 _) ?_
          refine v_istore2 (n' := 41) h dX3_isTold_40 rfl rfl ?_
          refine v_iinc3 (n' := 44) h dX3_isTold_41 rfl rfl ?_
          refine v_goto (tgt := 4) h dX3_isTold_44 rfl ?_
          refine V.cast ?_ rfl ih2
          rw [bi_t (show (∃ i : Nat, i < j + 1 ∧ kf i = key) from ⟨j, by omega, c31⟩)]
  have l0 := loop xs.length 0 (by omega)
  rw [bi_f (fun z => by obtain ⟨i, i1, -⟩ := z; omega)] at l0
  refine v_iconst (n' := 1) h dX3_isTold_0 rfl ?_
  refine v_istore2 (n' := 2) h dX3_isTold_1 rfl rfl ?_
  refine v_iconst (n' := 3) h dX3_isTold_2 rfl ?_
  refine v_istore3 (n' := 4) h dX3_isTold_3 rfl rfl ?_
  exact l0
