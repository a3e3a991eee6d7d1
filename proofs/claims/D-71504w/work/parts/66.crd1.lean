/-! THE READER: what stops it, its small steps -/
set_option maxRecDepth 100000
theorem nr_rfa (T : FieldType) (o : Option Nat) : narrow (.array T) (va_rf o) = va_rf o := by cases o <;> rfl
theorem ft_rfa (T : FieldType) (o : Option Nat) : fits (.array T) (va_rf o) = true := by cases o <;> rfl
def dvX4 : List Value := [.null, .null, .null, .null, .null, .int (iI 0), .int (iI 0)]
theorem dvX4_ok : ∀ j, j < 7 → defaultValue (tyX4 j) = vp_V dvX4 j := by decide
def dvX3 : List Value := [.int (iI 0), .int (iI 0), .int (iI 0), .int (iI 0), .null, .null]
theorem dvX3_ok : ∀ j, j < 6 → defaultValue (tyX3 j) = vp_V dvX3 j := by decide
theorem c_thr (de : Nat) (hp : AH) (x : Nat) (v0 v1 v2 v3 v4 v5 v6 : Value) (he : hp x = some (.inr (4, [v0, v1, v2, v3, v4, v5, v6]))) : CtE de yJ3_init_2 cJ3_init_2 5 none (rmK 1 0 0) [.ref x, .null, .null, .int (iI 0), .int (iI 0)] hp (rV (fun hp' => ∃ w0 w1 w2 w3, hp' = upH hp x (.inr (4, [w0, w1, w2, w3, v4, v5, v6])))) := by
  refine CtE.of (by decide) (EL.c1 rfl (EL.c1 rfl (EL.c1 rfl (EL.c1 rfl (EL.c1 rfl EL.n0))))) (fun Γ h hq hnm hde => ?_)
  refine v_aload_n (n' := 1) h dJ3_init_2_0 rfl rfl ?_
  refine v_objInit (n' := 4) h q338 q110 q111 dJ3_init_2_1 rfl (rm1 (by omega)) (Nat.le_of_ble_eq_true rfl) ?_
  refine v_aload_n (n' := 5) h dJ3_init_2_4 rfl rfl ?_
  refine v_aload_n (n' := 6) h dJ3_init_2_5 rfl rfl ?_
  refine v_put (n' := 9) (ci := 4) h rfl in_X4 tyX4 tyX4_ok nmX4 0 (by decide) q365 rfl rfl dJ3_init_2_6 rfl (by first | assumption | exact upH_s | exact (upH_n (by assumption)).trans (by assumption) | exact (upH_n (by assumption)).trans upH_s | exact (upH_n (by assumption)).trans ((upH_n (by assumption)).trans (by assumption))) (by show 0 < 7; decide) rfl rfl ?_
  refine v_aload_n (n' := 10) h dJ3_init_2_9 rfl rfl ?_
  refine v_getsQ (n' := 13) h q339 dJ3_init_2_10 rfl (fun o10 => ?_)
  refine v_put (n' := 16) (ci := 4) h rfl in_X4 tyX4 tyX4_ok nmX4 1 (by decide) q366 rfl rfl dJ3_init_2_13 rfl (by first | assumption | exact upH_s | exact (upH_n (by assumption)).trans (by assumption) | exact (upH_n (by assumption)).trans upH_s | exact (upH_n (by assumption)).trans ((upH_n (by assumption)).trans (by assumption))) (by show 1 < 7; decide) (nr_rfa _ _) (ft_rfa _ _) ?_
  refine v_aload_n (n' := 17) h dJ3_init_2_16 rfl rfl ?_
  refine v_getsP (n' := 20) h q341 dJ3_init_2_17 rfl (fun o17 => ?_)
  refine v_put (n' := 23) (ci := 4) h rfl in_X4 tyX4 tyX4_ok nmX4 2 (by decide) q367 rfl rfl dJ3_init_2_20 rfl (by first | assumption | exact upH_s | exact (upH_n (by assumption)).trans (by assumption) | exact (upH_n (by assumption)).trans upH_s | exact (upH_n (by assumption)).trans ((upH_n (by assumption)).trans (by assumption))) (by show 2 < 7; decide) (nr_rf _ _) (ft_rf _ _) ?_
  refine v_iload (n' := 25) h dJ3_init_2_23 rfl rfl ?_
  refine v_if_eq (n' := 28) (tgt := 36) h dJ3_init_2_25 rfl rfl (by omega) (fun c25 => ?_) (fun c25 => ?_)
  · refine v_aload_n (n' := 37) h dJ3_init_2_36 rfl rfl ?_
    refine v_null (n' := 38) h dJ3_init_2_37 rfl ?_
    refine v_put (n' := 41) (ci := 4) h rfl in_X4 tyX4 tyX4_ok nmX4 1 (by decide) q366 rfl rfl dJ3_init_2_38 rfl (by first | assumption | exact upH_s | exact (upH_n (by assumption)).trans (by assumption) | exact (upH_n (by assumption)).trans upH_s | exact (upH_n (by assumption)).trans ((upH_n (by assumption)).trans (by assumption))) (by show 1 < 7; decide) rfl rfl ?_
    refine v_aload_n (n' := 42) h dJ3_init_2_41 rfl rfl ?_
    refine v_aload_nN (n' := 43) h dJ3_init_2_42 rfl rfl ?_
    refine v_put (n' := 46) (ci := 4) h rfl in_X4 tyX4 tyX4_ok nmX4 3 (by decide) q364 rfl rfl dJ3_init_2_43 rfl (by first | assumption | exact upH_s | exact (upH_n (by assumption)).trans (by assumption) | exact (upH_n (by assumption)).trans upH_s | exact (upH_n (by assumption)).trans ((upH_n (by assumption)).trans (by assumption))) (by show 3 < 7; decide) rfl rfl ?_
    refine v_aload_n (n' := 47) h dJ3_init_2_46 rfl rfl ?_
    refine v_aload_nN (n' := 48) h dJ3_init_2_47 rfl rfl ?_
    refine v_put (n' := 51) (ci := 4) h rfl in_X4 tyX4 tyX4_ok nmX4 0 (by decide) q365 rfl rfl dJ3_init_2_48 rfl (by first | assumption | exact upH_s | exact (upH_n (by assumption)).trans (by assumption) | exact (upH_n (by assumption)).trans upH_s | exact (upH_n (by assumption)).trans ((upH_n (by assumption)).trans (by assumption))) (by show 0 < 7; decide) rfl rfl ?_
    refine v_iload_n (n' := 52) h dJ3_init_2_51 rfl rfl ?_
    refine v_if_ne (n' := 55) (tgt := 60) h dJ3_init_2_52 rfl rfl (by omega) (fun c52 => ?_) (fun c52 => ?_)
    · exact absurd rfl c52
    · refine v_aload_n (n' := 56) h dJ3_init_2_55 rfl rfl ?_
      refine v_null (n' := 57) h dJ3_init_2_56 rfl ?_
      refine v_put (n' := 60) (ci := 4) h rfl in_X4 tyX4 tyX4_ok nmX4 2 (by decide) q367 rfl rfl dJ3_init_2_57 rfl (by first | assumption | exact upH_s | exact (upH_n (by assumption)).trans (by assumption) | exact (upH_n (by assumption)).trans upH_s | exact (upH_n (by assumption)).trans ((upH_n (by assumption)).trans (by assumption))) (by show 2 < 7; decide) rfl rfl ?_
      refine v_vret h hq dJ3_init_2_60 (by omega) (by omega) (ret_v ?_)
      exact ⟨_, _, _, _, by simp only [upH_up]; rfl⟩
  · exact absurd rfl c25
theorem c_exc (de : Nat) (hp : AH) (x : Nat) (v0 v1 v2 v3 v4 v5 v6 : Value) (he : hp x = some (.inr (4, [v0, v1, v2, v3, v4, v5, v6]))) : CtE de yJ4_init cJ4_init 5 none (rmK 2 0 0) [.ref x, .null, .null, .int (iI 0), .int (iI 0)] hp (rV (fun hp' => ∃ w0 w1 w2 w3, hp' = upH hp x (.inr (4, [w0, w1, w2, w3, v4, v5, v6])))) := by
  refine CtE.of (by decide) (EL.c1 rfl (EL.c1 rfl (EL.c1 rfl (EL.c1 rfl (EL.c1 rfl EL.n0))))) (fun Γ h hq hnm hde => ?_)
  refine v_aload_n (n' := 1) h dJ4_init_0 rfl rfl ?_
  refine v_aload_nN (n' := 2) h dJ4_init_1 rfl rfl ?_
  refine v_aload_nN (n' := 3) h dJ4_init_2 rfl rfl ?_
  refine v_iload_n (n' := 4) h dJ4_init_3 rfl rfl ?_
  refine v_iload (n' := 6) h dJ4_init_4 rfl rfl ?_
  refine vc_callI (n' := 9) h ((c_thr de hp x v0 v1 v2 v3 v4 v5 v6 he).d hde) q360 q89 q358 q359 rfl hdJ3_init_2 ⟨by omega, by decide⟩ ⟨by omega, by omega⟩ (Nat.le_of_ble_eq_true rfl) dJ4_init_6 rfl (eV fun hp6 p6 => ?_) rfl
  refine v_vret h hq dJ4_init_9 (by omega) (by omega) (ret_v ?_)
  exact p6
/-- an object that stops the reading, and its place -/
def StpO (hp : AH) (x : Nat) (p : Int) : Prop := ∃ fs : List Value, hp x = some (.inr (4, fs)) ∧ fs[6]? = some (.int (iI p))
theorem c_stop (de : Nat) (hp : AH) (x : Nat) (p : Int) (he : hp x = some (.inr (4, dvX4))) : CtE de yX4_init cX4_init 2 none (rmK 3 0 0) [.ref x, .int (iI p)] hp (rV (fun hp' => ∃ w0 w1 w2 w3, hp' = upH hp x (.inr (4, [w0, w1, w2, w3, .null, .int (iI 0), .int (iI p)])))) := by
  refine CtE.of (by decide) (EL.c1 rfl (EL.c1 rfl EL.n0)) (fun Γ h hq hnm hde => ?_)
  refine v_aload_n (n' := 1) h dX4_init_0 rfl rfl ?_
  refine v_null (n' := 2) h dX4_init_1 rfl ?_
  refine v_null (n' := 3) h dX4_init_2 rfl ?_
  refine v_iconst (n' := 4) h dX4_init_3 rfl ?_
  refine v_iconst (n' := 5) h dX4_init_4 rfl ?_
  refine vc_callI (n' := 8) h ((c_exc de hp x _ _ _ _ _ _ _ he).d hde) q357 q90 q355 q356 rfl hdJ4_init ⟨by omega, by decide⟩ ⟨by omega, by omega⟩ (Nat.le_of_ble_eq_true rfl) dX4_init_5 rfl (eV fun hp5 p5 => ?_) rfl
  obtain ⟨w0, w1, w2, w3, e5⟩ := p5
  subst e5
  refine v_aload_n (n' := 9) h dX4_init_8 rfl rfl ?_
  refine v_iload_n (n' := 10) h dX4_init_9 rfl rfl ?_
  refine v_putF (n' := 13) (ci := 4) h rfl in_X4 tyX4 tyX4_ok nmX4 6 (by decide) q361 rfl rfl (hnm.trans rfl) rfl dX4_init_10 rfl (by first | assumption | exact upH_s | exact (upH_n (by assumption)).trans (by assumption) | exact (upH_n (by assumption)).trans upH_s | exact (upH_n (by assumption)).trans ((upH_n (by assumption)).trans (by assumption))) (by show 6 < 7; decide) rfl rfl ?_
  refine v_vret h hq dX4_init_13 (by omega) (by omega) (ret_v ?_)
  exact ⟨w0, w1, w2, w3, by simp only [upH_up]; rfl⟩
abbrev rO (p a b f : Int) (el ax : Nat) : va_E := .inr (3, [.int (iI p), .int (iI a), .int (iI b), .int (iI f), .ref el, .ref ax])
/-- the page, as the reader sees it -/
def PG (hp : AH) (ax : Nat) (n : Int) (g : Int → Int) : Prop := (0 ≤ n ∧ n ≤ 54) ∧ (∀ i, 0 ≤ g i ∧ g i ≤ 126) ∧ ∃ (A : Nat → Nat) (t : Nat) (kt : Option Nat) (σ : MS), hp ax = some (xO A t kt σ) ∧ hp (A 2) = some (aG 1 54 (σ.2 2)) ∧ σ.1 3 = n ∧ ∀ i, 0 ≤ i → i < 54 → σ.2 2 i = g i
def nx (g : Int → Int) (n p : Int) : Int := if p < n then g p else 0
theorem nx_r {g : Int → Int} {n p : Int} (h : ∀ i, 0 ≤ g i ∧ g i ≤ 126) : 0 ≤ nx g n p ∧ nx g n p ≤ 126 := by
  unfold nx
  split
  · exact h p
  · omega
theorem nx_lt {g : Int → Int} {n p : Int} (h : nx g n p ≠ 0) : p < n ∧ nx g n p = g p := by
  unfold nx at h ⊢
  by_cases c : p < n
  · rw [if_pos c]; exact ⟨c, rfl⟩
  · rw [if_neg c] at h; exact absurd rfl h
theorem PG.frm {hp hp' : AH} {ax : Nat} {n : Int} {g : Int → Int} (h : PG hp ax n g) (e : ∀ q c, hp q = some c → (∀ fs, c ≠ .inr (3, fs)) → (∀ fs, c ≠ .inr (10, fs)) → (∀ N f, c ≠ aQ N f) → hp' q = some c) : PG hp' ax n g := by
  obtain ⟨h1, h2, A, t, kt, σ, h3, h4, h5, h6⟩ := h
  exact ⟨h1, h2, A, t, kt, σ, e _ _ h3 (fun fs z => by have := congrArg Prod.fst (Sum.inr.inj z); simp at this) (fun fs z => by have := congrArg Prod.fst (Sum.inr.inj z); simp at this) (fun N f z => by cases z), e _ _ h4 (fun fs z => by cases z) (fun fs z => by cases z) (fun N f z => by have q := congrArg (fun p : ClassId × vp_A => p.2.2) (Sum.inl.inj z); cases q), h5, h6⟩
theorem PG.up {hp : AH} {ax r : Nat} {n : Int} {g : Int → Int} {fs : List Value} {e' : va_E} (h : PG hp ax n g) (hr : hp r = some (.inr (3, fs))) : PG (upH hp r e') ax n g :=
  h.frm (fun q c hq h1 _ _ => (upH_n (fun z => by rw [z, hr] at hq; exact h1 fs (Option.some.inj hq).symm)).trans hq)
theorem c_next (de : Nat) (hp : AH) (r ax el : Nat) (p a b f n : Int) (g : Int → Int) (hr : hp r = some (rO p a b f el ax)) (hP : PG hp ax n g) (hp0 : 0 ≤ p ∧ p ≤ 54) : CtE de yX3_next cX3_next 1 (some .int) (rmK 1 0 0) [.ref r] hp (rI (fun z hp' => z = nx g n p ∧ hp' = hp)) := by
  obtain ⟨h1, h2, A, t, kt, σ, h3, h4, h5, h6⟩ := hP
  refine CtE.of (by decide) (EL.c1 rfl EL.n0) (fun Γ h hq hnm hde => ?_)
  refine v_aload_n (n' := 1) h dX3_next_0 rfl rfl ?_
  refine v_get (n' := 4) (ci := 3) h rfl in_X3 0 (by decide) q275 rfl dX3_next_1 rfl (by first | assumption | exact upH_s | exact (upH_n (by assumption)).trans (by assumption) | exact (upH_n (by assumption)).trans upH_s | exact (upH_n (by assumption)).trans ((upH_n (by assumption)).trans (by assumption))) (by rfl) ?_
  refine v_aload_n (n' := 5) h dX3_next_4 rfl rfl ?_
  refine v_get (n' := 8) (ci := 3) h rfl in_X3 5 (by decide) q284 rfl dX3_next_5 rfl (by first | assumption | exact upH_s | exact (upH_n (by assumption)).trans (by assumption) | exact (upH_n (by assumption)).trans upH_s | exact (upH_n (by assumption)).trans ((upH_n (by assumption)).trans (by assumption))) (by rfl) ?_
  refine v_getN (n' := 11) (ci := 0) h rfl in_X0 3 (by decide) q192 rfl dX3_next_8 rfl (by first | assumption | exact upH_s | exact (upH_n (by assumption)).trans (by assumption) | exact (upH_n (by assumption)).trans upH_s | exact (upH_n (by assumption)).trans ((upH_n (by assumption)).trans (by assumption))) (by rfl) ?_
  refine v_icmp_ge (n' := 14) (tgt := 29) h dX3_next_11 rfl rfl (by omega) (by omega) (fun c11 => ?_) (fun c11 => ?_)
  · refine v_iconst (n' := 30) h dX3_next_29 rfl ?_
    refine v_iret h hq dX3_next_30 (by omega) (by omega) (ret_i ?_)
    exact ⟨by unfold nx; rw [if_neg (by omega)], rfl⟩
  · refine v_aload_n (n' := 15) h dX3_next_14 rfl rfl ?_
    refine v_get (n' := 18) (ci := 3) h rfl in_X3 5 (by decide) q284 rfl dX3_next_15 rfl (by first | assumption | exact upH_s | exact (upH_n (by assumption)).trans (by assumption) | exact (upH_n (by assumption)).trans upH_s | exact (upH_n (by assumption)).trans ((upH_n (by assumption)).trans (by assumption))) (by rfl) ?_
    refine v_getN (n' := 21) (ci := 0) h rfl in_X0 2 (by decide) q190 rfl dX3_next_18 rfl (by first | assumption | exact upH_s | exact (upH_n (by assumption)).trans (by assumption) | exact (upH_n (by assumption)).trans upH_s | exact (upH_n (by assumption)).trans ((upH_n (by assumption)).trans (by assumption))) (by rfl) ?_
    refine v_aload_n (n' := 22) h dX3_next_21 rfl rfl ?_
    refine v_get (n' := 25) (ci := 3) h rfl in_X3 0 (by decide) q275 rfl dX3_next_22 rfl (by first | assumption | exact upH_s | exact (upH_n (by assumption)).trans (by assumption) | exact (upH_n (by assumption)).trans upH_s | exact (upH_n (by assumption)).trans ((upH_n (by assumption)).trans (by assumption))) (by rfl) ?_
    refine v_gbald (n' := 26) h dX3_next_25 rfl (by first | assumption | exact upH_s | exact (upH_n (by assumption)).trans (by assumption) | exact (upH_n (by assumption)).trans upH_s | exact (upH_n (by assumption)).trans ((upH_n (by assumption)).trans (by assumption))) (by omega) (by omega) ?_
    refine v_goto (tgt := 30) h dX3_next_26 rfl ?_
    refine v_iret h hq dX3_next_30 (by omega) (by omega) (ret_i ?_)
    exact ⟨by unfold nx; rw [if_pos (by omega), h6 p (by omega) (by omega)], rfl⟩
theorem c_takes (de : Nat) (hp : AH) (r ax el : Nat) (p a b f n : Int) (g : Int → Int) (hr : hp r = some (rO p a b f el ax)) (hP : PG hp ax n g) (hp0 : 0 ≤ p ∧ p ≤ 54) (c : Int) (hc : 0 ≤ c ∧ c ≤ 200) : CtE de yX3_takes cX3_takes 3 (some .boolean) (rmK 2 0 0) [.ref r, .int (iI c)] hp (rI (fun z hp' => z = bi (nx g n p = c) ∧ hp' = upH hp r (rO (p + bi (nx g n p = c)) a b f el ax))) := by
  have hg := nx_r (g := g) (n := n) (p := p) hP.2.1
  refine CtE.of (by decide) (EL.c1 rfl (EL.c1 rfl (EL.nn EL.n0))) (fun Γ h hq hnm hde => ?_)
  refine v_aload_n (n' := 1) h dX3_takes_0 rfl rfl ?_
  refine vc_callV (n' := 4) (ci := 3) h ((c_next de hp r ax el p a b f n g hr hP hp0).d hde) rfl (by first | assumption | exact upH_s | exact (upH_n (by assumption)).trans (by assumption) | exact (upH_n (by assumption)).trans upH_s | exact (upH_n (by assumption)).trans ((upH_n (by assumption)).trans (by assumption))) (lw_V q306 q308 qs1 q88 q309) hdX3_next ⟨by omega, by decide⟩ ⟨by omega, by omega⟩ (Nat.le_of_ble_eq_true rfl) dX3_takes_1 rfl (eI fun z1 hp1 p1 => ?_) rfl
  obtain ⟨ez1, fz1⟩ := p1
  have ez1 := ez1.symm
  have fz1 := fz1.symm
  subst ez1 fz1
  refine v_iload_n (n' := 5) h dX3_takes_4 rfl rfl ?_
  refine v_icmp_ne (n' := 8) (tgt := 12) h dX3_takes_5 rfl rfl (by omega) (by omega) (fun c5 => ?_) (fun c5 => ?_)
  · refine v_iconst (n' := 13) h dX3_takes_12 rfl ?_
    refine v_istore2 (n' := 14) h dX3_takes_13 rfl rfl ?_
    refine v_aload_n (n' := 15) h dX3_takes_14 rfl rfl ?_
    refine v_dup (n' := 16) h dX3_takes_15 rfl rfl ?_
    refine v_get (n' := 19) (ci := 3) h rfl in_X3 0 (by decide) q275 rfl dX3_takes_16 rfl (by first | assumption | exact upH_s | exact (upH_n (by assumption)).trans (by assumption) | exact (upH_n (by assumption)).trans upH_s | exact (upH_n (by assumption)).trans ((upH_n (by assumption)).trans (by assumption))) (by rfl) ?_
    refine v_iload_n (n' := 20) h dX3_takes_19 rfl rfl ?_
    refine v_if_eq (n' := 23) (tgt := 27) h dX3_takes_20 rfl rfl (by omega) (fun c20 => ?_) (fun c20 => ?_)
    · refine v_iconst (n' := 28) h dX3_takes_27 rfl ?_
      refine v_iadd (n' := 29) h dX3_takes_28 rfl ?_
      refine v_put (n' := 32) (ci := 3) h rfl in_X3 tyX3 tyX3_ok nmX3 0 (by decide) q275 rfl rfl dX3_takes_29 rfl (by first | assumption | exact upH_s | exact (upH_n (by assumption)).trans (by assumption) | exact (upH_n (by assumption)).trans upH_s | exact (upH_n (by assumption)).trans ((upH_n (by assumption)).trans (by assumption))) (by show 0 < 6; decide) rfl rfl ?_
      refine v_iload_n (n' := 33) h dX3_takes_32 rfl rfl ?_
      refine v_zret h hq dX3_takes_33 (by omega) (by omega) (by omega) (ret_i ?_)
      exact ⟨(bi_f c5).symm, by rw [bi_f c5]; rfl⟩
    · exact absurd rfl c20
  · refine v_iconst (n' := 9) h dX3_takes_8 rfl ?_
    refine v_goto (tgt := 13) h dX3_takes_9 rfl ?_
    refine v_istore2 (n' := 14) h dX3_takes_13 rfl rfl ?_
    refine v_aload_n (n' := 15) h dX3_takes_14 rfl rfl ?_
    refine v_dup (n' := 16) h dX3_takes_15 rfl rfl ?_
    refine v_get (n' := 19) (ci := 3) h rfl in_X3 0 (by decide) q275 rfl dX3_takes_16 rfl (by first | assumption | exact upH_s | exact (upH_n (by assumption)).trans (by assumption) | exact (upH_n (by assumption)).trans upH_s | exact (upH_n (by assumption)).trans ((upH_n (by assumption)).trans (by assumption))) (by rfl) ?_
    refine v_iload_n (n' := 20) h dX3_takes_19 rfl rfl ?_
    refine v_if_eq (n' := 23) (tgt := 27) h dX3_takes_20 rfl rfl (by omega) (fun c20 => ?_) (fun c20 => ?_)
    · exact absurd c20 (by decide)
    · refine v_iconst (n' := 24) h dX3_takes_23 rfl ?_
      refine v_goto (tgt := 28) h dX3_takes_24 rfl ?_
      refine v_iadd (n' := 29) h dX3_takes_28 rfl ?_
      refine v_put (n' := 32) (ci := 3) h rfl in_X3 tyX3 tyX3_ok nmX3 0 (by decide) q275 rfl rfl dX3_takes_29 rfl (by first | assumption | exact upH_s | exact (upH_n (by assumption)).trans (by assumption) | exact (upH_n (by assumption)).trans upH_s | exact (upH_n (by assumption)).trans ((upH_n (by assumption)).trans (by assumption))) (by show 0 < 6; decide) rfl rfl ?_
      refine v_iload_n (n' := 33) h dX3_takes_32 rfl rfl ?_
      refine v_zret h hq dX3_takes_33 (by omega) (by omega) (by omega) (ret_i ?_)
      exact ⟨(bi_t c5).symm, by rw [bi_t c5]; rfl⟩
theorem c_want (de : Nat) (hp : AH) (r : Nat) : CtE de yX3_want cX3_want 2 none (rmK 4 0 0) [.ref r, .int (iI 1)] hp (rV (fun hp' => hp' = hp)) := by
  refine CtE.of (by decide) (EL.c1 rfl (EL.c1 rfl EL.n0)) (fun Γ h hq hnm hde => ?_)
  refine v_iload_n (n' := 1) h dX3_want_0 rfl rfl ?_
  refine v_if_ne (n' := 4) (tgt := 16) h dX3_want_1 rfl rfl (by omega) (fun c1 => ?_) (fun c1 => ?_)
  · refine v_vret h hq dX3_want_16 (by omega) (by omega) (ret_v ?_)
    rfl
  · exact absurd c1 (by decide)
theorem t_want (de : Nat) (hp : AH) (r ax el : Nat) (p a b f : Int) (hr : hp r = some (rO p a b f el ax)) : CtT de yX3_want cX3_want 2 none (rmK 4 1 7) [.ref r, .int (iI 0)] hp (fun x hp' => StpO hp' x p ∧ Frm (Fsh hp) hp hp') := by
  refine CtT.of (by decide) (EL.c1 rfl (EL.c1 rfl EL.n0)) (fun Γ h hq hnm hde hxt => ?_)
  refine v_iload_n (n' := 1) h dX3_want_0 rfl rfl ?_
  refine v_if_ne (n' := 4) (tgt := 16) h dX3_want_1 rfl rfl (by omega) (fun c1 => ?_) (fun c1 => ?_)
  · exact absurd rfl c1
  · refine v_new (n' := 7) (ci := 4) h rfl in_X4 tyX4 tyX4_ok q315 q316 q91 (fs := dvX4) dvX4_ok dX3_want_4 rfl (rmC (by omega)) (rmS (by omega)) (fun a4 n4 => ?_)
    refine v_dup (n' := 8) h dX3_want_7 rfl rfl ?_
    refine v_aload_n (n' := 9) h dX3_want_8 rfl rfl ?_
    have ne4 : r ≠ a4 := fun z => by rw [z, n4] at hr; cases hr
    refine v_get (n' := 12) (ci := 3) h rfl in_X3 0 (by decide) q275 rfl dX3_want_9 rfl (by first | assumption | exact upH_s | exact (upH_n (by assumption)).trans (by assumption) | exact (upH_n (by assumption)).trans upH_s | exact (upH_n (by assumption)).trans ((upH_n (by assumption)).trans (by assumption))) (by rfl) ?_
    refine vc_callI (n' := 15) h ((c_stop de _ a4 p upH_s).d hde) q354 q91 q352 q353 rfl hdX4_init ⟨by omega, by decide⟩ ⟨by omega, by omega⟩ (Nat.le_of_ble_eq_true rfl) dX3_want_12 rfl (eV fun hp12 p12 => ?_) rfl
    obtain ⟨w0, w1, w2, w3, e12⟩ := p12
    subst e12
    refine v_throw h hq hxt dX3_want_15 (by omega) (by omega) ?_
    exact ⟨⟨_, upH_s, rfl⟩, by rw [upH_up]; exact Frm.up n4⟩
