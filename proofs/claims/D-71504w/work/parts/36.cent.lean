/-! ENTRIES: what each kind answers; made -/
set_option maxRecDepth 100000
theorem lw_O {own : String} {idx : Nat} {C owner : String} {x y : MethodName} {b : ByteArray} {L : Nat} {r : Option FieldType} (h1 : Cond.methodLink own idx x ∈ lw_all) (h2 : Cond.sameMethod x.cls owner x.name x.desc ∈ lw_all) (h3 : Cond.instanceMethod ⟨owner, x.name, x.desc⟩ ∈ lw_all) (h4 : Cond.selects C x y ∈ lw_all) (h5 : Cond.instanceMethod y ∈ lw_all) (h6 : Cond.initialized y.cls ∈ lw_all) (h7 : Cond.code y b L r ∈ lw_all) : GoodIn lw_all (va_wsO own idx C owner x y (ws_ y b L r)) := by
  refine lw_app ?_ (lw_meth h7)
  intro w hw
  simp only [List.mem_cons, List.not_mem_nil, or_false] at hw
  rcases hw with rfl | rfl | rfl | rfl | rfl | rfl <;> assumption
theorem lw_SU {own : String} {idx : Nat} {y : MethodName} {b : ByteArray} {L : Nat} {r : Option FieldType} (h1 : Cond.methodLink own idx y ∈ lw_all) (h2 : Cond.sameMethod y.cls y.cls y.name y.desc ∈ lw_all) (h3 : Cond.superclass own y.cls ∈ lw_all) (h4 : Cond.instanceMethod y ∈ lw_all) (h5 : Cond.initialized y.cls ∈ lw_all) (h7 : Cond.code y b L r ∈ lw_all) : GoodIn lw_all (va_wsSU own idx y (ws_ y b L r)) := by
  refine lw_app ?_ (lw_meth h7)
  intro w hw
  simp only [List.mem_cons, List.not_mem_nil, or_false] at hw
  rcases hw with rfl | rfl | rfl | rfl | rfl <;> assumption

theorem c_kind5 (de : Nat) (hp : AH) (a : Nat) : CtE de yX5_kind cX5_kind 1 (some .int) (rmK 1 0 0) [.ref a] hp (rI (fun z hp' => z = 0 ∧ hp' = hp)) := by
  refine CtE.of (by decide) (EL.c1 rfl EL.n0) (fun Γ h hq hnm hde => ?_)
  refine v_iconst (n' := 1) h dX5_kind_0 rfl ?_
  refine v_iret h hq dX5_kind_1 (by omega) (by omega) (ret_i ?_)
  exact ⟨rfl, rfl⟩
theorem c_kind6 (de : Nat) (hp : AH) (a : Nat) : CtE de yX6_kind cX6_kind 1 (some .int) (rmK 1 0 0) [.ref a] hp (rI (fun z hp' => z = 1 ∧ hp' = hp)) := by
  refine CtE.of (by decide) (EL.c1 rfl EL.n0) (fun Γ h hq hnm hde => ?_)
  refine v_iconst (n' := 1) h dX6_kind_0 rfl ?_
  refine v_iret h hq dX6_kind_1 (by omega) (by omega) (ret_i ?_)
  exact ⟨rfl, rfl⟩
theorem c_kind7 (de : Nat) (hp : AH) (a : Nat) : CtE de yX7_kind cX7_kind 1 (some .int) (rmK 1 0 0) [.ref a] hp (rI (fun z hp' => z = 2 ∧ hp' = hp)) := by
  refine CtE.of (by decide) (EL.c1 rfl EL.n0) (fun Γ h hq hnm hde => ?_)
  refine v_iconst (n' := 1) h dX7_kind_0 rfl ?_
  refine v_iret h hq dX7_kind_1 (by omega) (by omega) (ret_i ?_)
  exact ⟨rfl, rfl⟩
theorem c_kind8 (de : Nat) (hp : AH) (a : Nat) : CtE de yX8_kind cX8_kind 1 (some .int) (rmK 1 0 0) [.ref a] hp (rI (fun z hp' => z = 3 ∧ hp' = hp)) := by
  refine CtE.of (by decide) (EL.c1 rfl EL.n0) (fun Γ h hq hnm hde => ?_)
  refine v_iconst (n' := 1) h dX8_kind_0 rfl ?_
  refine v_iret h hq dX8_kind_1 (by omega) (by omega) (ret_i ?_)
  exact ⟨rfl, rfl⟩
theorem c_kind9 (de : Nat) (hp : AH) (a : Nat) : CtE de yX9_kind cX9_kind 1 (some .int) (rmK 1 0 0) [.ref a] hp (rI (fun z hp' => z = 4 ∧ hp' = hp)) := by
  refine CtE.of (by decide) (EL.c1 rfl EL.n0) (fun Γ h hq hnm hde => ?_)
  refine v_iconst (n' := 1) h dX9_kind_0 rfl ?_
  refine v_iret h hq dX9_kind_1 (by omega) (by omega) (ret_i ?_)
  exact ⟨rfl, rfl⟩
theorem c_mayBeTaken5 (de : Nat) (hp : AH) (a : Nat) : CtE de yX5_mayBeTaken cX5_mayBeTaken 1 (some .boolean) (rmK 1 0 0) [.ref a] hp (rI (fun z hp' => z = 1 ∧ hp' = hp)) := by
  refine CtE.of (by decide) (EL.c1 rfl EL.n0) (fun Γ h hq hnm hde => ?_)
  refine v_iconst (n' := 1) h dX5_mayBeTaken_0 rfl ?_
  refine v_zret h hq dX5_mayBeTaken_1 (by decide) (by omega) (by omega) (ret_i ?_)
  exact ⟨rfl, rfl⟩
theorem c_mayBeTaken6 (de : Nat) (hp : AH) (a : Nat) : CtE de yX6_mayBeTaken cX6_mayBeTaken 1 (some .boolean) (rmK 1 0 0) [.ref a] hp (rI (fun z hp' => z = 0 ∧ hp' = hp)) := by
  refine CtE.of (by decide) (EL.c1 rfl EL.n0) (fun Γ h hq hnm hde => ?_)
  refine v_iconst (n' := 1) h dX6_mayBeTaken_0 rfl ?_
  refine v_zret h hq dX6_mayBeTaken_1 (by decide) (by omega) (by omega) (ret_i ?_)
  exact ⟨rfl, rfl⟩
theorem c_mayBePutAnew5 (de : Nat) (hp : AH) (a : Nat) : CtE de yX5_mayBePutAnew cX5_mayBePutAnew 1 (some .boolean) (rmK 1 0 0) [.ref a] hp (rI (fun z hp' => z = 1 ∧ hp' = hp)) := by
  refine CtE.of (by decide) (EL.c1 rfl EL.n0) (fun Γ h hq hnm hde => ?_)
  refine v_iconst (n' := 1) h dX5_mayBePutAnew_0 rfl ?_
  refine v_zret h hq dX5_mayBePutAnew_1 (by decide) (by omega) (by omega) (ret_i ?_)
  exact ⟨rfl, rfl⟩
theorem c_tellsMore5 (de : Nat) (hp : AH) (a : Nat) : CtE de yX5_tellsMore cX5_tellsMore 1 (some .boolean) (rmK 1 0 0) [.ref a] hp (rI (fun z hp' => z = 0 ∧ hp' = hp)) := by
  refine CtE.of (by decide) (EL.c1 rfl EL.n0) (fun Γ h hq hnm hde => ?_)
  refine v_iconst (n' := 1) h dX5_tellsMore_0 rfl ?_
  refine v_zret h hq dX5_tellsMore_1 (by decide) (by omega) (by omega) (ret_i ?_)
  exact ⟨rfl, rfl⟩
theorem c_tellsMore7 (de : Nat) (hp : AH) (a : Nat) : CtE de yX7_tellsMore cX7_tellsMore 1 (some .boolean) (rmK 1 0 0) [.ref a] hp (rI (fun z hp' => z = 1 ∧ hp' = hp)) := by
  refine CtE.of (by decide) (EL.c1 rfl EL.n0) (fun Γ h hq hnm hde => ?_)
  refine v_iconst (n' := 1) h dX7_tellsMore_0 rfl ?_
  refine v_zret h hq dX7_tellsMore_1 (by decide) (by omega) (by omega) (ret_i ?_)
  exact ⟨rfl, rfl⟩
theorem c_stays5 (de : Nat) (hp : AH) (a : Nat) : CtE de yX5_stays cX5_stays 1 (some .boolean) (rmK 1 0 0) [.ref a] hp (rI (fun z hp' => z = 1 ∧ hp' = hp)) := by
  refine CtE.of (by decide) (EL.c1 rfl EL.n0) (fun Γ h hq hnm hde => ?_)
  refine v_iconst (n' := 1) h dX5_stays_0 rfl ?_
  refine v_zret h hq dX5_stays_1 (by decide) (by omega) (by omega) (ret_i ?_)
  exact ⟨rfl, rfl⟩
theorem c_stays8 (de : Nat) (hp : AH) (a : Nat) : CtE de yX8_stays cX8_stays 1 (some .boolean) (rmK 1 0 0) [.ref a] hp (rI (fun z hp' => z = 0 ∧ hp' = hp)) := by
  refine CtE.of (by decide) (EL.c1 rfl EL.n0) (fun Γ h hq hnm hde => ?_)
  refine v_iconst (n' := 1) h dX8_stays_0 rfl ?_
  refine v_zret h hq dX8_stays_1 (by decide) (by omega) (by omega) (ret_i ?_)
  exact ⟨rfl, rfl⟩
theorem c_mayBePutAnew9 (de : Nat) (hp : AH) (a : Nat) (fs : List Value) (he : hp a = some (.inr (9, fs))) : CtE de yX9_mayBePutAnew cX9_mayBePutAnew 1 (some .boolean) (rmK 2 0 0) [.ref a] hp (rI (fun z hp' => z = 0 ∧ hp' = hp)) := by
  refine CtE.of (by decide) (EL.c1 rfl EL.n0) (fun Γ h hq hnm hde => ?_)
  refine v_aload_n (n' := 1) h dX9_mayBePutAnew_0 rfl rfl ?_
  refine vc_callSU (n' := 4) (ci := 9) h ((c_mayBeTaken6 de hp a).d hde) rfl he (lw_SU q702 q1402 q473 q703 q96 q704) (by decide +kernel) ⟨by omega, by decide⟩ ⟨by omega, by omega⟩ (Nat.le_of_ble_eq_true rfl) dX9_mayBePutAnew_1 rfl (eI fun z1 hp1 p1 => ?_) rfl
  obtain ⟨rfl, p1⟩ := p1
  have p1 := p1.symm
  subst p1
  refine v_zret h hq dX9_mayBePutAnew_4 (Or.inl rfl) (by omega) (by omega) (ret_i ?_)
  exact ⟨rfl, rfl⟩
theorem v_kind {Γ : GX} {k n : Nat} {hp : AH} {pc n' : Nat} {L : List (Option Value)} {st : List Value} {cc : ByteArray} {own : String} {ret : Option FieldType} {l' c' s' : Nat} (h : Ok0 cc own ret (rmK l' c' s') Γ) {kd a i : Nat} {fs : List Value} (he : hp a = some (.inr (5 + kd, fs))) (hkd : kd < 5) (hw : Cond.methodLink own i yX5_kind ∈ lw_all) (d : decode cc pc = .ok (.invokevirtual i, 3)) (hn : pc + 3 = n') (hst : (st.map fun v => v.category).sum ≤ 8) (hf : k ≤ c' ∧ n ≤ s') (hl : 3 ≤ l') (kk : V Γ k n hp n' L (.int (iI ((kd : Int))) :: st)) : V Γ k n hp pc L (.ref a :: st) := by
  match kd, hkd with
  | 0, _ => exact vc_callU (ci := 5) (C := RX5) (owner := RX5) (x := yX5_kind) h ((c_kind5 _ hp a).d rfl) rfl he (fun S ar ht => va_cwO 0 ht (lw_O hw q621 q619 q620 q619 q95 q634) rfl rfl rfl q634 hdX5_kind (lvK ⟨by omega, by decide⟩)) hf hst d hn (eI fun z hp' q => by obtain ⟨q1, q2⟩ := q; rw [q1, q2]; exact kk) rfl
  | 1, _ => exact vc_callU (ci := 6) (C := RX6) (owner := RX5) (x := yX5_kind) h ((c_kind6 _ hp a).d rfl) rfl he (fun S ar ht => va_cwO 0 ht (lw_O hw q621 q619 q628 q629 q96 q630) rfl rfl rfl q634 hdX5_kind (lvK ⟨by omega, by decide⟩)) hf hst d hn (eI fun z hp' q => by obtain ⟨q1, q2⟩ := q; rw [q1, q2]; exact kk) rfl
  | 2, _ => exact vc_callU (ci := 7) (C := RX7) (owner := RX5) (x := yX5_kind) h ((c_kind7 _ hp a).d rfl) rfl he (fun S ar ht => va_cwO 0 ht (lw_O hw q621 q619 q622 q623 q97 q624) rfl rfl rfl q634 hdX5_kind (lvK ⟨by omega, by decide⟩)) hf hst d hn (eI fun z hp' q => by obtain ⟨q1, q2⟩ := q; rw [q1, q2]; exact kk) rfl
  | 3, _ => exact vc_callU (ci := 8) (C := RX8) (owner := RX5) (x := yX5_kind) h ((c_kind8 _ hp a).d rfl) rfl he (fun S ar ht => va_cwO 0 ht (lw_O hw q621 q619 q625 q626 q98 q627) rfl rfl rfl q634 hdX5_kind (lvK ⟨by omega, by decide⟩)) hf hst d hn (eI fun z hp' q => by obtain ⟨q1, q2⟩ := q; rw [q1, q2]; exact kk) rfl
  | 4, _ => exact vc_callU (ci := 9) (C := RX9) (owner := RX5) (x := yX5_kind) h ((c_kind9 _ hp a).d rfl) rfl he (fun S ar ht => va_cwO 0 ht (lw_O hw q621 q619 q631 q632 q99 q633) rfl rfl rfl q634 hdX5_kind (lvK ⟨by omega, by decide⟩)) hf hst d hn (eI fun z hp' q => by obtain ⟨q1, q2⟩ := q; rw [q1, q2]; exact kk) rfl
theorem v_mayBeTaken {Γ : GX} {k n : Nat} {hp : AH} {pc n' : Nat} {L : List (Option Value)} {st : List Value} {cc : ByteArray} {own : String} {ret : Option FieldType} {l' c' s' : Nat} (h : Ok0 cc own ret (rmK l' c' s') Γ) {kd a i : Nat} {fs : List Value} (he : hp a = some (.inr (5 + kd, fs))) (hkd : kd < 5) (hw : Cond.methodLink own i yX5_mayBeTaken ∈ lw_all) (d : decode cc pc = .ok (.invokevirtual i, 3)) (hn : pc + 3 = n') (hst : (st.map fun v => v.category).sum ≤ 8) (hf : k ≤ c' ∧ n ≤ s') (hl : 3 ≤ l') (kk : V Γ k n hp n' L (.int (iI (bi (kd ≠ 1 ∧ kd ≠ 4))) :: st)) : V Γ k n hp pc L (.ref a :: st) := by
  match kd, hkd with
  | 0, _ => exact vc_callU (ci := 5) (C := RX5) (owner := RX5) (x := yX5_mayBeTaken) h ((c_mayBeTaken5 _ hp a).d rfl) rfl he (fun S ar ht => va_cwO 0 ht (lw_O hw q719 q717 q718 q717 q95 q724) rfl rfl rfl q724 hdX5_mayBeTaken (lvK ⟨by omega, by decide⟩)) hf hst d hn (eI fun z hp' q => by obtain ⟨q1, q2⟩ := q; rw [q1, q2]; rw [bi_t (by decide)] at kk; exact kk) rfl
  | 1, _ => exact vc_callU (ci := 6) (C := RX6) (owner := RX5) (x := yX5_mayBeTaken) h ((c_mayBeTaken6 _ hp a).d rfl) rfl he (fun S ar ht => va_cwO 0 ht (lw_O hw q719 q717 q722 q703 q96 q704) rfl rfl rfl q724 hdX5_mayBeTaken (lvK ⟨by omega, by decide⟩)) hf hst d hn (eI fun z hp' q => by obtain ⟨q1, q2⟩ := q; rw [q1, q2]; rw [bi_f (by decide)] at kk; exact kk) rfl
  | 2, _ => exact vc_callU (ci := 7) (C := RX7) (owner := RX5) (x := yX5_mayBeTaken) h ((c_mayBeTaken5 _ hp a).d rfl) rfl he (fun S ar ht => va_cwO 0 ht (lw_O hw q719 q717 q720 q717 q95 q724) rfl rfl rfl q724 hdX5_mayBeTaken (lvK ⟨by omega, by decide⟩)) hf hst d hn (eI fun z hp' q => by obtain ⟨q1, q2⟩ := q; rw [q1, q2]; rw [bi_t (by decide)] at kk; exact kk) rfl
  | 3, _ => exact vc_callU (ci := 8) (C := RX8) (owner := RX5) (x := yX5_mayBeTaken) h ((c_mayBeTaken5 _ hp a).d rfl) rfl he (fun S ar ht => va_cwO 0 ht (lw_O hw q719 q717 q721 q717 q95 q724) rfl rfl rfl q724 hdX5_mayBeTaken (lvK ⟨by omega, by decide⟩)) hf hst d hn (eI fun z hp' q => by obtain ⟨q1, q2⟩ := q; rw [q1, q2]; rw [bi_t (by decide)] at kk; exact kk) rfl
  | 4, _ => exact vc_callU (ci := 9) (C := RX9) (owner := RX5) (x := yX5_mayBeTaken) h ((c_mayBeTaken6 _ hp a).d rfl) rfl he (fun S ar ht => va_cwO 0 ht (lw_O hw q719 q717 q723 q703 q96 q704) rfl rfl rfl q724 hdX5_mayBeTaken (lvK ⟨by omega, by decide⟩)) hf hst d hn (eI fun z hp' q => by obtain ⟨q1, q2⟩ := q; rw [q1, q2]; rw [bi_f (by decide)] at kk; exact kk) rfl
theorem v_mayBePutAnew {Γ : GX} {k n : Nat} {hp : AH} {pc n' : Nat} {L : List (Option Value)} {st : List Value} {cc : ByteArray} {own : String} {ret : Option FieldType} {l' c' s' : Nat} (h : Ok0 cc own ret (rmK l' c' s') Γ) {kd a i : Nat} {fs : List Value} (he : hp a = some (.inr (5 + kd, fs))) (hkd : kd < 5) (hw : Cond.methodLink own i yX5_mayBePutAnew ∈ lw_all) (d : decode cc pc = .ok (.invokevirtual i, 3)) (hn : pc + 3 = n') (hst : (st.map fun v => v.category).sum ≤ 8) (hf : k ≤ c' ∧ n ≤ s') (hl : 3 ≤ l') (kk : V Γ k n hp n' L (.int (iI (bi (kd ≠ 4))) :: st)) : V Γ k n hp pc L (.ref a :: st) := by
  match kd, hkd with
  | 0, _ => exact vc_callU (ci := 5) (C := RX5) (owner := RX5) (x := yX5_mayBePutAnew) h ((c_mayBePutAnew5 _ hp a).d rfl) rfl he (fun S ar ht => va_cwO 0 ht (lw_O hw q695 q693 q694 q693 q95 q705) rfl rfl rfl q705 hdX5_mayBePutAnew (lvK ⟨by omega, by decide⟩)) hf hst d hn (eI fun z hp' q => by obtain ⟨q1, q2⟩ := q; rw [q1, q2]; rw [bi_t (by decide)] at kk; exact kk) rfl
  | 1, _ => exact vc_callU (ci := 6) (C := RX6) (owner := RX5) (x := yX5_mayBePutAnew) h ((c_mayBePutAnew5 _ hp a).d rfl) rfl he (fun S ar ht => va_cwO 0 ht (lw_O hw q695 q693 q698 q693 q95 q705) rfl rfl rfl q705 hdX5_mayBePutAnew (lvK ⟨by omega, by decide⟩)) hf hst d hn (eI fun z hp' q => by obtain ⟨q1, q2⟩ := q; rw [q1, q2]; rw [bi_t (by decide)] at kk; exact kk) rfl
  | 2, _ => exact vc_callU (ci := 7) (C := RX7) (owner := RX5) (x := yX5_mayBePutAnew) h ((c_mayBePutAnew5 _ hp a).d rfl) rfl he (fun S ar ht => va_cwO 0 ht (lw_O hw q695 q693 q696 q693 q95 q705) rfl rfl rfl q705 hdX5_mayBePutAnew (lvK ⟨by omega, by decide⟩)) hf hst d hn (eI fun z hp' q => by obtain ⟨q1, q2⟩ := q; rw [q1, q2]; rw [bi_t (by decide)] at kk; exact kk) rfl
  | 3, _ => exact vc_callU (ci := 8) (C := RX8) (owner := RX5) (x := yX5_mayBePutAnew) h ((c_mayBePutAnew5 _ hp a).d rfl) rfl he (fun S ar ht => va_cwO 0 ht (lw_O hw q695 q693 q697 q693 q95 q705) rfl rfl rfl q705 hdX5_mayBePutAnew (lvK ⟨by omega, by decide⟩)) hf hst d hn (eI fun z hp' q => by obtain ⟨q1, q2⟩ := q; rw [q1, q2]; rw [bi_t (by decide)] at kk; exact kk) rfl
  | 4, _ => exact vc_callU (ci := 9) (C := RX9) (owner := RX5) (x := yX5_mayBePutAnew) h ((c_mayBePutAnew9 _ hp a fs he).d rfl) rfl he (fun S ar ht => va_cwO 0 ht (lw_O hw q695 q693 q699 q700 q99 q701) rfl rfl rfl q705 hdX5_mayBePutAnew (lvK ⟨by omega, by decide⟩)) hf hst d hn (eI fun z hp' q => by obtain ⟨q1, q2⟩ := q; rw [q1, q2]; rw [bi_f (by decide)] at kk; exact kk) rfl
theorem v_tellsMore {Γ : GX} {k n : Nat} {hp : AH} {pc n' : Nat} {L : List (Option Value)} {st : List Value} {cc : ByteArray} {own : String} {ret : Option FieldType} {l' c' s' : Nat} (h : Ok0 cc own ret (rmK l' c' s') Γ) {kd a i : Nat} {fs : List Value} (he : hp a = some (.inr (5 + kd, fs))) (hkd : kd < 5) (hw : Cond.methodLink own i yX5_tellsMore ∈ lw_all) (d : decode cc pc = .ok (.invokevirtual i, 3)) (hn : pc + 3 = n') (hst : (st.map fun v => v.category).sum ≤ 8) (hf : k ≤ c' ∧ n ≤ s') (hl : 3 ≤ l') (kk : V Γ k n hp n' L (.int (iI (bi (kd = 2))) :: st)) : V Γ k n hp pc L (.ref a :: st) := by
  match kd, hkd with
  | 0, _ => exact vc_callU (ci := 5) (C := RX5) (owner := RX5) (x := yX5_tellsMore) h ((c_tellsMore5 _ hp a).d rfl) rfl he (fun S ar ht => va_cwO 0 ht (lw_O hw q746 q744 q745 q744 q95 q753) rfl rfl rfl q753 hdX5_tellsMore (lvK ⟨by omega, by decide⟩)) hf hst d hn (eI fun z hp' q => by obtain ⟨q1, q2⟩ := q; rw [q1, q2]; rw [bi_f (by decide)] at kk; exact kk) rfl
  | 1, _ => exact vc_callU (ci := 6) (C := RX6) (owner := RX5) (x := yX5_tellsMore) h ((c_tellsMore5 _ hp a).d rfl) rfl he (fun S ar ht => va_cwO 0 ht (lw_O hw q746 q744 q751 q744 q95 q753) rfl rfl rfl q753 hdX5_tellsMore (lvK ⟨by omega, by decide⟩)) hf hst d hn (eI fun z hp' q => by obtain ⟨q1, q2⟩ := q; rw [q1, q2]; rw [bi_f (by decide)] at kk; exact kk) rfl
  | 2, _ => exact vc_callU (ci := 7) (C := RX7) (owner := RX5) (x := yX5_tellsMore) h ((c_tellsMore7 _ hp a).d rfl) rfl he (fun S ar ht => va_cwO 0 ht (lw_O hw q746 q744 q747 q748 q97 q749) rfl rfl rfl q753 hdX5_tellsMore (lvK ⟨by omega, by decide⟩)) hf hst d hn (eI fun z hp' q => by obtain ⟨q1, q2⟩ := q; rw [q1, q2]; rw [bi_t (by decide)] at kk; exact kk) rfl
  | 3, _ => exact vc_callU (ci := 8) (C := RX8) (owner := RX5) (x := yX5_tellsMore) h ((c_tellsMore5 _ hp a).d rfl) rfl he (fun S ar ht => va_cwO 0 ht (lw_O hw q746 q744 q750 q744 q95 q753) rfl rfl rfl q753 hdX5_tellsMore (lvK ⟨by omega, by decide⟩)) hf hst d hn (eI fun z hp' q => by obtain ⟨q1, q2⟩ := q; rw [q1, q2]; rw [bi_f (by decide)] at kk; exact kk) rfl
  | 4, _ => exact vc_callU (ci := 9) (C := RX9) (owner := RX5) (x := yX5_tellsMore) h ((c_tellsMore5 _ hp a).d rfl) rfl he (fun S ar ht => va_cwO 0 ht (lw_O hw q746 q744 q752 q744 q95 q753) rfl rfl rfl q753 hdX5_tellsMore (lvK ⟨by omega, by decide⟩)) hf hst d hn (eI fun z hp' q => by obtain ⟨q1, q2⟩ := q; rw [q1, q2]; rw [bi_f (by decide)] at kk; exact kk) rfl
theorem v_stays {Γ : GX} {k n : Nat} {hp : AH} {pc n' : Nat} {L : List (Option Value)} {st : List Value} {cc : ByteArray} {own : String} {ret : Option FieldType} {l' c' s' : Nat} (h : Ok0 cc own ret (rmK l' c' s') Γ) {kd a i : Nat} {fs : List Value} (he : hp a = some (.inr (5 + kd, fs))) (hkd : kd < 5) (hw : Cond.methodLink own i yX5_stays ∈ lw_all) (d : decode cc pc = .ok (.invokevirtual i, 3)) (hn : pc + 3 = n') (hst : (st.map fun v => v.category).sum ≤ 8) (hf : k ≤ c' ∧ n ≤ s') (hl : 3 ≤ l') (kk : V Γ k n hp n' L (.int (iI (bi (kd ≠ 3))) :: st)) : V Γ k n hp pc L (.ref a :: st) := by
  match kd, hkd with
  | 0, _ => exact vc_callU (ci := 5) (C := RX5) (owner := RX5) (x := yX5_stays) h ((c_stays5 _ hp a).d rfl) rfl he (fun S ar ht => va_cwO 0 ht (lw_O hw q758 q756 q757 q756 q95 q765) rfl rfl rfl q765 hdX5_stays (lvK ⟨by omega, by decide⟩)) hf hst d hn (eI fun z hp' q => by obtain ⟨q1, q2⟩ := q; rw [q1, q2]; rw [bi_t (by decide)] at kk; exact kk) rfl
  | 1, _ => exact vc_callU (ci := 6) (C := RX6) (owner := RX5) (x := yX5_stays) h ((c_stays5 _ hp a).d rfl) rfl he (fun S ar ht => va_cwO 0 ht (lw_O hw q758 q756 q763 q756 q95 q765) rfl rfl rfl q765 hdX5_stays (lvK ⟨by omega, by decide⟩)) hf hst d hn (eI fun z hp' q => by obtain ⟨q1, q2⟩ := q; rw [q1, q2]; rw [bi_t (by decide)] at kk; exact kk) rfl
  | 2, _ => exact vc_callU (ci := 7) (C := RX7) (owner := RX5) (x := yX5_stays) h ((c_stays5 _ hp a).d rfl) rfl he (fun S ar ht => va_cwO 0 ht (lw_O hw q758 q756 q759 q756 q95 q765) rfl rfl rfl q765 hdX5_stays (lvK ⟨by omega, by decide⟩)) hf hst d hn (eI fun z hp' q => by obtain ⟨q1, q2⟩ := q; rw [q1, q2]; rw [bi_t (by decide)] at kk; exact kk) rfl
  | 3, _ => exact vc_callU (ci := 8) (C := RX8) (owner := RX5) (x := yX5_stays) h ((c_stays8 _ hp a).d rfl) rfl he (fun S ar ht => va_cwO 0 ht (lw_O hw q758 q756 q760 q761 q98 q762) rfl rfl rfl q765 hdX5_stays (lvK ⟨by omega, by decide⟩)) hf hst d hn (eI fun z hp' q => by obtain ⟨q1, q2⟩ := q; rw [q1, q2]; rw [bi_f (by decide)] at kk; exact kk) rfl
  | 4, _ => exact vc_callU (ci := 9) (C := RX9) (owner := RX5) (x := yX5_stays) h ((c_stays5 _ hp a).d rfl) rfl he (fun S ar ht => va_cwO 0 ht (lw_O hw q758 q756 q764 q756 q95 q765) rfl rfl rfl q765 hdX5_stays (lvK ⟨by omega, by decide⟩)) hf hst d hn (eI fun z hp' q => by obtain ⟨q1, q2⟩ := q; rw [q1, q2]; rw [bi_t (by decide)] at kk; exact kk) rfl
theorem c_isOf5 (de : Nat) (hp : AH) (a kd : Nat) (fs : List Value) (z : Int) (hkd : kd < 5) (he : hp a = some (.inr (5 + kd, fs))) (hz : -2147483648 ≤ z ∧ z ≤ 2147483647) : CtE de yX5_isOf cX5_isOf 2 (some .boolean) (rmK 4 0 0) [.ref a, .int (iI z)] hp (rI (fun r hp' => r = bi (z = 0 ∨ z = kd) ∧ hp' = hp)) := by
  refine CtE.of (by decide) (EL.c1 rfl (EL.c1 rfl EL.n0)) (fun Γ h hq hnm hde => ?_)
  refine v_iload_n (n' := 1) h dX5_isOf_0 rfl rfl ?_
  refine v_if_eq (n' := 4) (tgt := 12) h dX5_isOf_1 rfl rfl (by omega) (fun c1 => ?_) (fun c1 => ?_)
  · refine v_iconst (n' := 13) h dX5_isOf_12 rfl ?_
    refine v_goto (tgt := 17) h dX5_isOf_13 rfl ?_
    refine v_zret h hq dX5_isOf_17 (by decide) (by omega) (by omega) (ret_i ?_)
    exact ⟨(bi_t (by omega)).symm, rfl⟩
  · refine v_iload_n (n' := 5) h dX5_isOf_4 rfl rfl ?_
    refine v_aload_n (n' := 6) h dX5_isOf_5 rfl rfl ?_
    refine v_kind (n' := 9) h (by first | assumption | exact upH_s | exact (upH_n (by assumption)).trans (by assumption) | exact (upH_n (by assumption)).trans upH_s | exact (upH_n (by assumption)).trans ((upH_n (by assumption)).trans (by assumption))) hkd q667 dX5_isOf_6 rfl (Nat.le_of_ble_eq_true rfl) ⟨by omega, by omega⟩ (by omega) ?_
    refine v_icmp_ne (n' := 12) (tgt := 16) h dX5_isOf_9 rfl rfl (by omega) (by omega) (fun c9 => ?_) (fun c9 => ?_)
    · refine v_iconst (n' := 17) h dX5_isOf_16 rfl ?_
      refine v_zret h hq dX5_isOf_17 (by decide) (by omega) (by omega) (ret_i ?_)
      exact ⟨(bi_f (by omega)).symm, rfl⟩
    · refine v_iconst (n' := 13) h dX5_isOf_12 rfl ?_
      refine v_goto (tgt := 17) h dX5_isOf_13 rfl ?_
      refine v_zret h hq dX5_isOf_17 (by decide) (by omega) (by omega) (ret_i ?_)
      exact ⟨(bi_t (by omega)).symm, rfl⟩
theorem c_isOf6_1 (de : Nat) (hp : AH) (a : Nat) (fs : List Value) (z : Int) (he : hp a = some (.inr (6, fs))) (hz : -2147483648 ≤ z ∧ z ≤ 2147483647) : CtE de yX6_isOf cX6_isOf 2 (some .boolean) (rmK 5 0 0) [.ref a, .int (iI z)] hp (rI (fun r hp' => r = bi (z = 0 ∨ z = 1 ∨ z = 1) ∧ hp' = hp)) := by
  refine CtE.of (by decide) (EL.c1 rfl (EL.c1 rfl EL.n0)) (fun Γ h hq hnm hde => ?_)
  refine v_iload_n (n' := 1) h dX6_isOf_0 rfl rfl ?_
  refine v_iconst (n' := 2) h dX6_isOf_1 rfl ?_
  refine v_icmp_eq (n' := 5) (tgt := 13) h dX6_isOf_2 rfl rfl (by omega) (by omega) (fun c2 => ?_) (fun c2 => ?_)
  · refine v_iconst (n' := 14) h dX6_isOf_13 rfl ?_
    refine v_goto (tgt := 18) h dX6_isOf_14 rfl ?_
    refine v_zret h hq dX6_isOf_18 (by decide) (by omega) (by omega) (ret_i ?_)
    exact ⟨(bi_t (by omega)).symm, rfl⟩
  · refine v_aload_n (n' := 6) h dX6_isOf_5 rfl rfl ?_
    refine v_iload_n (n' := 7) h dX6_isOf_6 rfl rfl ?_
    refine vc_callSU (n' := 10) (ci := 6) h ((c_isOf5 de hp a 1 fs z (by decide) he hz).d hde) rfl he (lw_SU q661 q655 q440 q653 q95 q666) ⟨by decide +kernel, hdX5_isOf.2.2⟩ ⟨by omega, by decide⟩ ⟨by omega, by omega⟩ (Nat.le_of_ble_eq_true rfl) dX6_isOf_7 rfl (eI fun z7 hp7 p7 => ?_) rfl
    obtain ⟨ez7, fz7⟩ := p7
    have fz7 := fz7.symm
    subst ez7 fz7
    refine v_bif_eq (n' := 13) (tgt := 17) h dX6_isOf_10 rfl rfl (fun c10 => ?_) (fun c10 => ?_)
    · refine v_iconst (n' := 18) h dX6_isOf_17 rfl ?_
      refine v_zret h hq dX6_isOf_18 (by decide) (by omega) (by omega) (ret_i ?_)
      exact ⟨(bi_f (by omega)).symm, rfl⟩
    · refine v_iconst (n' := 14) h dX6_isOf_13 rfl ?_
      refine v_goto (tgt := 18) h dX6_isOf_14 rfl ?_
      refine v_zret h hq dX6_isOf_18 (by decide) (by omega) (by omega) (ret_i ?_)
      exact ⟨(bi_t (by omega)).symm, rfl⟩
theorem c_isOf6_4 (de : Nat) (hp : AH) (a : Nat) (fs : List Value) (z : Int) (he : hp a = some (.inr (9, fs))) (hz : -2147483648 ≤ z ∧ z ≤ 2147483647) : CtE de yX6_isOf cX6_isOf 2 (some .boolean) (rmK 5 0 0) [.ref a, .int (iI z)] hp (rI (fun r hp' => r = bi (z = 0 ∨ z = 1 ∨ z = 4) ∧ hp' = hp)) := by
  refine CtE.of (by decide) (EL.c1 rfl (EL.c1 rfl EL.n0)) (fun Γ h hq hnm hde => ?_)
  refine v_iload_n (n' := 1) h dX6_isOf_0 rfl rfl ?_
  refine v_iconst (n' := 2) h dX6_isOf_1 rfl ?_
  refine v_icmp_eq (n' := 5) (tgt := 13) h dX6_isOf_2 rfl rfl (by omega) (by omega) (fun c2 => ?_) (fun c2 => ?_)
  · refine v_iconst (n' := 14) h dX6_isOf_13 rfl ?_
    refine v_goto (tgt := 18) h dX6_isOf_14 rfl ?_
    refine v_zret h hq dX6_isOf_18 (by decide) (by omega) (by omega) (ret_i ?_)
    exact ⟨(bi_t (by omega)).symm, rfl⟩
  · refine v_aload_n (n' := 6) h dX6_isOf_5 rfl rfl ?_
    refine v_iload_n (n' := 7) h dX6_isOf_6 rfl rfl ?_
    refine vc_callSU (n' := 10) (ci := 9) h ((c_isOf5 de hp a 4 fs z (by decide) he hz).d hde) rfl he (lw_SU q661 q655 q440 q653 q95 q666) ⟨by decide +kernel, hdX5_isOf.2.2⟩ ⟨by omega, by decide⟩ ⟨by omega, by omega⟩ (Nat.le_of_ble_eq_true rfl) dX6_isOf_7 rfl (eI fun z7 hp7 p7 => ?_) rfl
    obtain ⟨ez7, fz7⟩ := p7
    have fz7 := fz7.symm
    subst ez7 fz7
    refine v_bif_eq (n' := 13) (tgt := 17) h dX6_isOf_10 rfl rfl (fun c10 => ?_) (fun c10 => ?_)
    · refine v_iconst (n' := 18) h dX6_isOf_17 rfl ?_
      refine v_zret h hq dX6_isOf_18 (by decide) (by omega) (by omega) (ret_i ?_)
      exact ⟨(bi_f (by omega)).symm, rfl⟩
    · refine v_iconst (n' := 14) h dX6_isOf_13 rfl ?_
      refine v_goto (tgt := 18) h dX6_isOf_14 rfl ?_
      refine v_zret h hq dX6_isOf_18 (by decide) (by omega) (by omega) (ret_i ?_)
      exact ⟨(bi_t (by omega)).symm, rfl⟩
theorem c_isOf9 (de : Nat) (hp : AH) (a : Nat) (fs : List Value) (z : Int) (he : hp a = some (.inr (9, fs))) (hz : -2147483648 ≤ z ∧ z ≤ 2147483647) : CtE de yX9_isOf cX9_isOf 2 (some .boolean) (rmK 6 0 0) [.ref a, .int (iI z)] hp (rI (fun r hp' => r = bi (z = 0 ∨ z = 1 ∨ z = 4) ∧ hp' = hp)) := by
  refine CtE.of (by decide) (EL.c1 rfl (EL.c1 rfl EL.n0)) (fun Γ h hq hnm hde => ?_)
  refine v_iload_n (n' := 1) h dX9_isOf_0 rfl rfl ?_
  refine v_iconst (n' := 2) h dX9_isOf_1 rfl ?_
  refine v_icmp_eq (n' := 5) (tgt := 13) h dX9_isOf_2 rfl rfl (by omega) (by omega) (fun c2 => ?_) (fun c2 => ?_)
  · refine v_iconst (n' := 14) h dX9_isOf_13 rfl ?_
    refine v_goto (tgt := 18) h dX9_isOf_14 rfl ?_
    refine v_zret h hq dX9_isOf_18 (by decide) (by omega) (by omega) (ret_i ?_)
    exact ⟨(bi_t (by omega)).symm, rfl⟩
  · refine v_aload_n (n' := 6) h dX9_isOf_5 rfl rfl ?_
    refine v_iload_n (n' := 7) h dX9_isOf_6 rfl rfl ?_
    refine vc_callSU (n' := 10) (ci := 9) h ((c_isOf6_4 de hp a fs z he hz).d hde) rfl he (lw_SU q665 q1401 q473 q659 q96 q660) ⟨by decide +kernel, hdX6_isOf.2.2⟩ ⟨by omega, by decide⟩ ⟨by omega, by omega⟩ (Nat.le_of_ble_eq_true rfl) dX9_isOf_7 rfl (eI fun z7 hp7 p7 => ?_) rfl
    obtain ⟨ez7, fz7⟩ := p7
    have fz7 := fz7.symm
    subst ez7 fz7
    refine v_bif_eq (n' := 13) (tgt := 17) h dX9_isOf_10 rfl rfl (fun c10 => ?_) (fun c10 => ?_)
    · refine v_iconst (n' := 18) h dX9_isOf_17 rfl ?_
      refine v_zret h hq dX9_isOf_18 (by decide) (by omega) (by omega) (ret_i ?_)
      exact ⟨(bi_f (by omega)).symm, rfl⟩
    · refine v_iconst (n' := 14) h dX9_isOf_13 rfl ?_
      refine v_goto (tgt := 18) h dX9_isOf_14 rfl ?_
      refine v_zret h hq dX9_isOf_18 (by decide) (by omega) (by omega) (ret_i ?_)
      exact ⟨(bi_t (by omega)).symm, rfl⟩
theorem v_isOf {Γ : GX} {k n : Nat} {hp : AH} {pc n' : Nat} {L : List (Option Value)} {st : List Value} {cc : ByteArray} {own : String} {ret : Option FieldType} {l' c' s' : Nat} (h : Ok0 cc own ret (rmK l' c' s') Γ) {kd a i : Nat} {fs : List Value} {z : Int} (hz : -2147483648 ≤ z ∧ z ≤ 2147483647) (he : hp a = some (.inr (5 + kd, fs))) (hkd : kd < 5) (hw : Cond.methodLink own i yX5_isOf ∈ lw_all) (d : decode cc pc = .ok (.invokevirtual i, 3)) (hn : pc + 3 = n') (hst : (st.map fun v => v.category).sum ≤ 8) (hf : k ≤ c' ∧ n ≤ s') (hl : 7 ≤ l') (kk : V Γ k n hp n' L (.int (iI (bi (z = 0 ∨ z = (kd : Int) ∨ (z = 1 ∧ (kd : Int) = 4)))) :: st)) : V Γ k n hp pc L (.int (iI z) :: .ref a :: st) := by
  match kd, hkd with
  | 0, _ => exact vc_callU (ci := 5) (C := RX5) (owner := RX5) (x := yX5_isOf) (As := [.int (iI z)]) h ((c_isOf5 _ hp a 0 fs z (by decide) he hz).d rfl) rfl he (fun S ar ht => va_cwO 1 ht (lw_O hw q655 q653 q654 q653 q95 q666) rfl rfl rfl q666 hdX5_isOf (lvK ⟨by omega, by decide⟩)) hf hst d hn (eI fun z hp' q => by obtain ⟨q1, q2⟩ := q; rw [q1, q2]; refine Eq.mp (congrArg (fun z => V Γ _ _ hp n' L (.int (iI z) :: st)) (bi_c ?_)) kk; omega) rfl
  | 1, _ => exact vc_callU (ci := 6) (C := RX6) (owner := RX5) (x := yX5_isOf) (As := [.int (iI z)]) h ((c_isOf6_1 _ hp a fs z he hz).d rfl) rfl he (fun S ar ht => va_cwO 1 ht (lw_O hw q655 q653 q658 q659 q96 q660) rfl rfl rfl q666 hdX5_isOf (lvK ⟨by omega, by decide⟩)) hf hst d hn (eI fun z hp' q => by obtain ⟨q1, q2⟩ := q; rw [q1, q2]; refine Eq.mp (congrArg (fun z => V Γ _ _ hp n' L (.int (iI z) :: st)) (bi_c ?_)) kk; omega) rfl
  | 2, _ => exact vc_callU (ci := 7) (C := RX7) (owner := RX5) (x := yX5_isOf) (As := [.int (iI z)]) h ((c_isOf5 _ hp a 2 fs z (by decide) he hz).d rfl) rfl he (fun S ar ht => va_cwO 1 ht (lw_O hw q655 q653 q656 q653 q95 q666) rfl rfl rfl q666 hdX5_isOf (lvK ⟨by omega, by decide⟩)) hf hst d hn (eI fun z hp' q => by obtain ⟨q1, q2⟩ := q; rw [q1, q2]; refine Eq.mp (congrArg (fun z => V Γ _ _ hp n' L (.int (iI z) :: st)) (bi_c ?_)) kk; omega) rfl
  | 3, _ => exact vc_callU (ci := 8) (C := RX8) (owner := RX5) (x := yX5_isOf) (As := [.int (iI z)]) h ((c_isOf5 _ hp a 3 fs z (by decide) he hz).d rfl) rfl he (fun S ar ht => va_cwO 1 ht (lw_O hw q655 q653 q657 q653 q95 q666) rfl rfl rfl q666 hdX5_isOf (lvK ⟨by omega, by decide⟩)) hf hst d hn (eI fun z hp' q => by obtain ⟨q1, q2⟩ := q; rw [q1, q2]; refine Eq.mp (congrArg (fun z => V Γ _ _ hp n' L (.int (iI z) :: st)) (bi_c ?_)) kk; omega) rfl
  | 4, _ => exact vc_callU (ci := 9) (C := RX9) (owner := RX5) (x := yX5_isOf) (As := [.int (iI z)]) h ((c_isOf9 _ hp a fs z he hz).d rfl) rfl he (fun S ar ht => va_cwO 1 ht (lw_O hw q655 q653 q662 q663 q99 q664) rfl rfl rfl q666 hdX5_isOf (lvK ⟨by omega, by decide⟩)) hf hst d hn (eI fun z hp' q => by obtain ⟨q1, q2⟩ := q; rw [q1, q2]; refine Eq.mp (congrArg (fun z => V Γ _ _ hp n' L (.int (iI z) :: st)) (bi_c ?_)) kk; omega) rfl
def coP (what : Int) (kd : Nat) : Prop := if what = 0 then kd ≠ 1 ∧ kd ≠ 4 else if what = 1 then kd ≠ 4 else if what = 2 then kd = 2 else kd ≠ 3
theorem c_could (de : Nat) (hp : AH) (a kd : Nat) (fs : List Value) (z : Int) (hkd : kd < 5) (he : hp a = some (.inr (5 + kd, fs))) (hz : -2147483648 ≤ z ∧ z ≤ 2147483647) : CtE de yX5_could cX5_could 2 (some .boolean) (rmK 4 0 0) [.ref a, .int (iI z)] hp (rI (fun r hp' => r = bi (coP z kd) ∧ hp' = hp)) := by
  refine CtE.of (by decide) (EL.c1 rfl (EL.c1 rfl EL.n0)) (fun Γ h hq hnm hde => ?_)
  refine v_iload_n (n' := 1) h dX5_could_0 rfl rfl ?_
  refine v_if_ne (n' := 4) (tgt := 11) h dX5_could_1 rfl rfl (by omega) (fun c1 => ?_) (fun c1 => ?_)
  · refine v_iload_n (n' := 12) h dX5_could_11 rfl rfl ?_
    refine v_iconst (n' := 13) h dX5_could_12 rfl ?_
    refine v_icmp_ne (n' := 16) (tgt := 23) h dX5_could_13 rfl rfl (by omega) (by omega) (fun c13 => ?_) (fun c13 => ?_)
    · refine v_iload_n (n' := 24) h dX5_could_23 rfl rfl ?_
      refine v_iconst (n' := 25) h dX5_could_24 rfl ?_
      refine v_icmp_ne (n' := 28) (tgt := 35) h dX5_could_25 rfl rfl (by omega) (by omega) (fun c25 => ?_) (fun c25 => ?_)
      · refine v_aload_n (n' := 36) h dX5_could_35 rfl rfl ?_
        refine v_stays (n' := 39) h (by first | assumption | exact upH_s | exact (upH_n (by assumption)).trans (by assumption) | exact (upH_n (by assumption)).trans upH_s | exact (upH_n (by assumption)).trans ((upH_n (by assumption)).trans (by assumption))) hkd q866 dX5_could_36 rfl (Nat.le_of_ble_eq_true rfl) ⟨by omega, by omega⟩ (by omega) ?_
        refine v_zret h hq dX5_could_39 (bi_01 _) (by omega) (by omega) (ret_i ?_)
        exact ⟨bi_c (by unfold coP; rw [if_neg c1, if_neg c13, if_neg c25]), rfl⟩
      · refine v_aload_n (n' := 29) h dX5_could_28 rfl rfl ?_
        refine v_tellsMore (n' := 32) h (by first | assumption | exact upH_s | exact (upH_n (by assumption)).trans (by assumption) | exact (upH_n (by assumption)).trans upH_s | exact (upH_n (by assumption)).trans ((upH_n (by assumption)).trans (by assumption))) hkd q865 dX5_could_29 rfl (Nat.le_of_ble_eq_true rfl) ⟨by omega, by omega⟩ (by omega) ?_
        refine v_goto (tgt := 39) h dX5_could_32 rfl ?_
        refine v_zret h hq dX5_could_39 (bi_01 _) (by omega) (by omega) (ret_i ?_)
        exact ⟨bi_c (by unfold coP; rw [if_neg c1, if_neg c13, if_pos c25]), rfl⟩
    · refine v_aload_n (n' := 17) h dX5_could_16 rfl rfl ?_
      refine v_mayBePutAnew (n' := 20) h (by first | assumption | exact upH_s | exact (upH_n (by assumption)).trans (by assumption) | exact (upH_n (by assumption)).trans upH_s | exact (upH_n (by assumption)).trans ((upH_n (by assumption)).trans (by assumption))) hkd q864 dX5_could_17 rfl (Nat.le_of_ble_eq_true rfl) ⟨by omega, by omega⟩ (by omega) ?_
      refine v_goto (tgt := 39) h dX5_could_20 rfl ?_
      refine v_zret h hq dX5_could_39 (bi_01 _) (by omega) (by omega) (ret_i ?_)
      exact ⟨bi_c (by unfold coP; rw [if_neg c1, if_pos c13]), rfl⟩
  · refine v_aload_n (n' := 5) h dX5_could_4 rfl rfl ?_
    refine v_mayBeTaken (n' := 8) h (by first | assumption | exact upH_s | exact (upH_n (by assumption)).trans (by assumption) | exact (upH_n (by assumption)).trans upH_s | exact (upH_n (by assumption)).trans ((upH_n (by assumption)).trans (by assumption))) hkd q863 dX5_could_5 rfl (Nat.le_of_ble_eq_true rfl) ⟨by omega, by omega⟩ (by omega) ?_
    refine v_goto (tgt := 39) h dX5_could_8 rfl ?_
    refine v_zret h hq dX5_could_39 (bi_01 _) (by omega) (by omega) (ret_i ?_)
    exact ⟨bi_c (by unfold coP; rw [if_pos c1]), rfl⟩
theorem v_could {Γ : GX} {k n : Nat} {hp : AH} {pc n' : Nat} {L : List (Option Value)} {st : List Value} {cc : ByteArray} {own : String} {ret : Option FieldType} {l' c' s' : Nat} (h : Ok0 cc own ret (rmK l' c' s') Γ) {kd a i : Nat} {fs : List Value} {z : Int} (hz : -2147483648 ≤ z ∧ z ≤ 2147483647) (he : hp a = some (.inr (5 + kd, fs))) (hkd : kd < 5) (hw : Cond.methodLink own i yX5_could ∈ lw_all) (d : decode cc pc = .ok (.invokevirtual i, 3)) (hn : pc + 3 = n') (hst : (st.map fun v => v.category).sum ≤ 8) (hf : k ≤ c' ∧ n ≤ s') (hl : 7 ≤ l') (kk : V Γ k n hp n' L (.int (iI (bi (coP z kd))) :: st)) : V Γ k n hp pc L (.int (iI z) :: .ref a :: st) := by
  match kd, hkd with
  | 0, _ => exact vc_callU (ci := 5) (C := RX5) (owner := RX5) (x := yX5_could) (As := [.int (iI z)]) h ((c_could _ hp a 0 fs z (by decide) he hz).d rfl) rfl he (fun S ar ht => va_cwO 1 ht (lw_O hw q857 q855 q856 q855 q95 q862) rfl rfl rfl q862 hdX5_could (lvK ⟨by omega, by decide⟩)) hf hst d hn (eI fun z hp' q => by obtain ⟨q1, q2⟩ := q; rw [q1, q2]; exact kk) rfl
  | 1, _ => exact vc_callU (ci := 6) (C := RX6) (owner := RX5) (x := yX5_could) (As := [.int (iI z)]) h ((c_could _ hp a 1 fs z (by decide) he hz).d rfl) rfl he (fun S ar ht => va_cwO 1 ht (lw_O hw q857 q855 q860 q855 q95 q862) rfl rfl rfl q862 hdX5_could (lvK ⟨by omega, by decide⟩)) hf hst d hn (eI fun z hp' q => by obtain ⟨q1, q2⟩ := q; rw [q1, q2]; exact kk) rfl
  | 2, _ => exact vc_callU (ci := 7) (C := RX7) (owner := RX5) (x := yX5_could) (As := [.int (iI z)]) h ((c_could _ hp a 2 fs z (by decide) he hz).d rfl) rfl he (fun S ar ht => va_cwO 1 ht (lw_O hw q857 q855 q858 q855 q95 q862) rfl rfl rfl q862 hdX5_could (lvK ⟨by omega, by decide⟩)) hf hst d hn (eI fun z hp' q => by obtain ⟨q1, q2⟩ := q; rw [q1, q2]; exact kk) rfl
  | 3, _ => exact vc_callU (ci := 8) (C := RX8) (owner := RX5) (x := yX5_could) (As := [.int (iI z)]) h ((c_could _ hp a 3 fs z (by decide) he hz).d rfl) rfl he (fun S ar ht => va_cwO 1 ht (lw_O hw q857 q855 q859 q855 q95 q862) rfl rfl rfl q862 hdX5_could (lvK ⟨by omega, by decide⟩)) hf hst d hn (eI fun z hp' q => by obtain ⟨q1, q2⟩ := q; rw [q1, q2]; exact kk) rfl
  | 4, _ => exact vc_callU (ci := 9) (C := RX9) (owner := RX5) (x := yX5_could) (As := [.int (iI z)]) h ((c_could _ hp a 4 fs z (by decide) he hz).d rfl) rfl he (fun S ar ht => va_cwO 1 ht (lw_O hw q857 q855 q861 q855 q95 q862) rfl rfl rfl q862 hdX5_could (lvK ⟨by omega, by decide⟩)) hf hst d hn (eI fun z hp' q => by obtain ⟨q1, q2⟩ := q; rw [q1, q2]; exact kk) rfl
theorem c_einit5 (de : Nat) (hp : AH) (a : Nat) : CtE de yX5_init cX5_init 1 none (rmK 2 0 0) [.ref a] hp (rV (fun hp' => hp' = hp)) := by
  refine CtE.of (by decide) (EL.c1 rfl EL.n0) (fun Γ h hq hnm hde => ?_)
  refine v_aload_n (n' := 1) h dX5_init_0 rfl rfl ?_
  refine v_objInit (n' := 4) h q423 q110 q111 dX5_init_1 rfl (rm1 (by omega)) (Nat.le_of_ble_eq_true rfl) ?_
  refine v_vret h hq dX5_init_4 (by omega) (by omega) (ret_v ?_)
  rfl
theorem c_einit6 (de : Nat) (hp : AH) (a : Nat) : CtE de yX6_init cX6_init 1 none (rmK 3 0 0) [.ref a] hp (rV (fun hp' => hp' = hp)) := by
  refine CtE.of (by decide) (EL.c1 rfl EL.n0) (fun Γ h hq hnm hde => ?_)
  refine v_aload_n (n' := 1) h dX6_init_0 rfl rfl ?_
  refine vc_callIN (n' := 4) h ((c_einit5 de hp a).d hde) q422 q95 q420 q421 rfl hdX5_init ⟨by omega, by decide⟩ ⟨by omega, by omega⟩ (Nat.le_of_ble_eq_true rfl) dX6_init_1 rfl (eV fun hp1 p1 => ?_) rfl
  have p1 := p1.symm
  subst p1
  refine v_vret h hq dX6_init_4 (by omega) (by omega) (ret_v ?_)
  rfl
theorem c_einit7 (de : Nat) (hp : AH) (a : Nat) : CtE de yX7_init cX7_init 1 none (rmK 3 0 0) [.ref a] hp (rV (fun hp' => hp' = hp)) := by
  refine CtE.of (by decide) (EL.c1 rfl EL.n0) (fun Γ h hq hnm hde => ?_)
  refine v_aload_n (n' := 1) h dX7_init_0 rfl rfl ?_
  refine vc_callIN (n' := 4) h ((c_einit5 de hp a).d hde) q422 q95 q446 q421 rfl hdX5_init ⟨by omega, by decide⟩ ⟨by omega, by omega⟩ (Nat.le_of_ble_eq_true rfl) dX7_init_1 rfl (eV fun hp1 p1 => ?_) rfl
  have p1 := p1.symm
  subst p1
  refine v_vret h hq dX7_init_4 (by omega) (by omega) (ret_v ?_)
  rfl
theorem c_einit8 (de : Nat) (hp : AH) (a : Nat) : CtE de yX8_init cX8_init 1 none (rmK 3 0 0) [.ref a] hp (rV (fun hp' => hp' = hp)) := by
  refine CtE.of (by decide) (EL.c1 rfl EL.n0) (fun Γ h hq hnm hde => ?_)
  refine v_aload_n (n' := 1) h dX8_init_0 rfl rfl ?_
  refine vc_callIN (n' := 4) h ((c_einit5 de hp a).d hde) q422 q95 q457 q421 rfl hdX5_init ⟨by omega, by decide⟩ ⟨by omega, by omega⟩ (Nat.le_of_ble_eq_true rfl) dX8_init_1 rfl (eV fun hp1 p1 => ?_) rfl
  have p1 := p1.symm
  subst p1
  refine v_vret h hq dX8_init_4 (by omega) (by omega) (ret_v ?_)
  rfl
theorem c_einit9 (de : Nat) (hp : AH) (a : Nat) : CtE de yX9_init cX9_init 1 none (rmK 4 0 0) [.ref a] hp (rV (fun hp' => hp' = hp)) := by
  refine CtE.of (by decide) (EL.c1 rfl EL.n0) (fun Γ h hq hnm hde => ?_)
  refine v_aload_n (n' := 1) h dX9_init_0 rfl rfl ?_
  refine vc_callIN (n' := 4) h ((c_einit6 de hp a).d hde) q419 q96 q468 q418 rfl hdX6_init ⟨by omega, by decide⟩ ⟨by omega, by omega⟩ (Nat.le_of_ble_eq_true rfl) dX9_init_1 rfl (eV fun hp1 p1 => ?_) rfl
  have p1 := p1.symm
  subst p1
  refine v_vret h hq dX9_init_4 (by omega) (by omega) (ret_v ?_)
  rfl
def dvX5 : List Value := [.int (iI 0), .int (iI 0), .null, .null]
abbrev dvX6 : List Value := dvX5
abbrev dvX7 : List Value := dvX5
abbrev dvX8 : List Value := dvX5
abbrev dvX9 : List Value := dvX5
theorem dvX5_ok : ∀ j, j < 4 → defaultValue (tyX5 j) = vp_V dvX5 j := by decide
theorem dvX6_ok : ∀ j, j < 4 → defaultValue (tyX6 j) = vp_V dvX6 j := by decide
theorem dvX7_ok : ∀ j, j < 4 → defaultValue (tyX7 j) = vp_V dvX7 j := by decide
theorem dvX8_ok : ∀ j, j < 4 → defaultValue (tyX8 j) = vp_V dvX8 j := by decide
theorem dvX9_ok : ∀ j, j < 4 → defaultValue (tyX9 j) = vp_V dvX9 j := by decide
theorem c_made (de : Nat) (hp : AH) (kd : Nat) (key val : Int) (hkd : kd < 5) : CtE de yX0_made cX0_made 4 (some (.object "CreditShelf$Entry")) (rmK 5 1 4) [.int (iI kd), .int (iI key), .int (iI val)] hp (rR (fun z hp' => hp z = none ∧ hp' = upH hp z (eO kd key val none none))) := by
  refine CtE.of (by decide) (EL.c1 rfl (EL.c1 rfl (EL.c1 rfl (EL.nn EL.n0)))) (fun Γ h hq hnm hde => ?_)
  have tail : ∀ a, hp a = none → V Γ 1 4 (upH hp a (.inr (5 + kd, dvX5))) 67 [some (.int (iI kd)), some (.int (iI key)), some (.int (iI val)), none] [.ref a] := by
    intro a ha
    refine v_astore3 (n' := 68) h dX0_made_67 rfl rfl ?_
    refine v_aload_n (n' := 69) h dX0_made_68 rfl rfl ?_
    refine v_iload_n (n' := 70) h dX0_made_69 rfl rfl ?_
    refine v_pkey (n' := 73) h q425 dX0_made_70 rfl (show upH hp a _ a = some (eO kd 0 0 none none) from upH_s) hkd ?_
    refine v_aload_n (n' := 74) h dX0_made_73 rfl rfl ?_
    refine v_iload_n (n' := 75) h dX0_made_74 rfl rfl ?_
    refine v_pval (n' := 78) h q427 dX0_made_75 rfl (by first | assumption | exact upH_s | exact (upH_n (by assumption)).trans (by assumption) | exact (upH_n (by assumption)).trans upH_s | exact (upH_n (by assumption)).trans ((upH_n (by assumption)).trans (by assumption))) hkd ?_
    refine v_aload_n (n' := 79) h dX0_made_78 rfl rfl ?_
    refine v_aret h hq dX0_made_79 (Or.inl ⟨_, rfl⟩) (Or.inr ⟨_, rfl⟩) (by omega) (by omega) (ret_r ?_)
    exact ⟨ha, by rw [upH_up, upH_up]⟩
  refine v_iload_n (n' := 1) h dX0_made_0 rfl rfl ?_
  refine v_iconst (n' := 2) h dX0_made_1 rfl ?_
  refine v_icmp_ne (n' := 5) (tgt := 15) h dX0_made_2 rfl rfl (by omega) (by omega) (fun c2 => ?_) (fun c2 => ?_)
  · refine v_iload_n (n' := 16) h dX0_made_15 rfl rfl ?_
    refine v_iconst (n' := 17) h dX0_made_16 rfl ?_
    refine v_icmp_ne (n' := 20) (tgt := 30) h dX0_made_17 rfl rfl (by omega) (by omega) (fun c17 => ?_) (fun c17 => ?_)
    · refine v_iload_n (n' := 31) h dX0_made_30 rfl rfl ?_
      refine v_iconst (n' := 32) h dX0_made_31 rfl ?_
      refine v_icmp_ne (n' := 35) (tgt := 45) h dX0_made_32 rfl rfl (by omega) (by omega) (fun c32 => ?_) (fun c32 => ?_)
      · refine v_iload_n (n' := 46) h dX0_made_45 rfl rfl ?_
        refine v_iconst (n' := 47) h dX0_made_46 rfl ?_
        refine v_icmp_ne (n' := 50) (tgt := 60) h dX0_made_47 rfl rfl (by omega) (by omega) (fun c47 => ?_) (fun c47 => ?_)
        · refine v_new (n' := 63) (ci := 5) h rfl in_X5 tyX5 tyX5_ok q474 q475 q95 (fs := dvX5) dvX5_ok dX0_made_60 rfl (rmC (by omega)) (rmS (by omega)) (fun a60 n60 => ?_)
          refine v_dup (n' := 64) h dX0_made_63 rfl rfl ?_
          refine vc_callIN (n' := 67) h ((c_einit5 de _ a60).d hde) q422 q95 q476 q421 rfl hdX5_init ⟨by omega, by decide⟩ ⟨by omega, by omega⟩ (Nat.le_of_ble_eq_true rfl) dX0_made_64 rfl (eV fun hp64 p64 => ?_) rfl
          have p64 := p64.symm
          subst p64
          obtain rfl : kd = 0 := by omega
          exact tail a60 n60
        · refine v_new (n' := 53) (ci := 9) h rfl in_X9 tyX9 tyX9_ok q463 q464 q99 (fs := dvX9) dvX9_ok dX0_made_50 rfl (rmC (by omega)) (rmS (by omega)) (fun a50 n50 => ?_)
          refine v_dup (n' := 54) h dX0_made_53 rfl rfl ?_
          refine vc_callIN (n' := 57) h ((c_einit9 de _ a50).d hde) q467 q99 q465 q466 rfl hdX9_init ⟨by omega, by decide⟩ ⟨by omega, by omega⟩ (Nat.le_of_ble_eq_true rfl) dX0_made_54 rfl (eV fun hp54 p54 => ?_) rfl
          have p54 := p54.symm
          subst p54
          refine v_goto (tgt := 67) h dX0_made_57 rfl ?_
          obtain rfl : kd = 4 := by omega
          exact tail a50 n50
      · refine v_new (n' := 38) (ci := 8) h rfl in_X8 tyX8 tyX8_ok q452 q453 q98 (fs := dvX8) dvX8_ok dX0_made_35 rfl (rmC (by omega)) (rmS (by omega)) (fun a35 n35 => ?_)
        refine v_dup (n' := 39) h dX0_made_38 rfl rfl ?_
        refine vc_callIN (n' := 42) h ((c_einit8 de _ a35).d hde) q456 q98 q454 q455 rfl hdX8_init ⟨by omega, by decide⟩ ⟨by omega, by omega⟩ (Nat.le_of_ble_eq_true rfl) dX0_made_39 rfl (eV fun hp39 p39 => ?_) rfl
        have p39 := p39.symm
        subst p39
        refine v_goto (tgt := 67) h dX0_made_42 rfl ?_
        obtain rfl : kd = 3 := by omega
        exact tail a35 n35
    · refine v_new (n' := 23) (ci := 7) h rfl in_X7 tyX7 tyX7_ok q441 q442 q97 (fs := dvX7) dvX7_ok dX0_made_20 rfl (rmC (by omega)) (rmS (by omega)) (fun a20 n20 => ?_)
      refine v_dup (n' := 24) h dX0_made_23 rfl rfl ?_
      refine vc_callIN (n' := 27) h ((c_einit7 de _ a20).d hde) q445 q97 q443 q444 rfl hdX7_init ⟨by omega, by decide⟩ ⟨by omega, by omega⟩ (Nat.le_of_ble_eq_true rfl) dX0_made_24 rfl (eV fun hp24 p24 => ?_) rfl
      have p24 := p24.symm
      subst p24
      refine v_goto (tgt := 67) h dX0_made_27 rfl ?_
      obtain rfl : kd = 2 := by omega
      exact tail a20 n20
  · refine v_new (n' := 8) (ci := 6) h rfl in_X6 tyX6 tyX6_ok q415 q416 q96 (fs := dvX6) dvX6_ok dX0_made_5 rfl (rmC (by omega)) (rmS (by omega)) (fun a5 n5 => ?_)
    refine v_dup (n' := 9) h dX0_made_8 rfl rfl ?_
    refine vc_callIN (n' := 12) h ((c_einit6 de _ a5).d hde) q419 q96 q417 q418 rfl hdX6_init ⟨by omega, by decide⟩ ⟨by omega, by omega⟩ (Nat.le_of_ble_eq_true rfl) dX0_made_9 rfl (eV fun hp9 p9 => ?_) rfl
    have p9 := p9.symm
    subst p9
    refine v_goto (tgt := 67) h dX0_made_12 rfl ?_
    obtain rfl : kd = 1 := by omega
    exact tail a5 n5
