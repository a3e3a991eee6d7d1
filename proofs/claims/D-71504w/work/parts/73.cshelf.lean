/-! THE CLASS: shelf -/
set_option maxRecDepth 100000
theorem shN_seen {g : Int → Int} {a b fee : Int} : ∀ j, (shN g a b fee j).2.2.2.2 = []
  | 0 => rfl
  | j + 1 => shN_seen j
theorem k_shelf (de : Nat) (hp : AH) (ax : Nat) (s : SS) (n : Int) (hC : CRel de hp ax s) (hi : SInv s n) (hn : n ≤ 64) : CtW de yX0_shelf cX0_shelf 2 (some .int) [(0, 42, 43, 126)] (rmK 65 120 2400) [.ref ax] hp (rI (fun z hp' => z = (oShelf s).1 ∧ CRel de hp' ax (oShelf s).2)) := by
  obtain ⟨W, A, t, kt, σ, ad, hH, hX⟩ := hC
  have hP := PG_of hH hX hi
  have hr := x_r hX hi hn
  have bad : ¬ PageOk (sPg s) (sPn s) → oShelf s = (-103, s) := fun z => if_neg z
  have gd : PageOk (sPg s) (sPn s) → oShelf s = ((tz (shN (sPg s) (sPg s 0 - 48) (sPg s 1 - 48) (sPg s 3 - 48) ((sPn s - 4) / 6).toNat).1.1 : Int), fS s ((sPn s - 4) / 6).toNat) := fun z => if_pos z
  refine CtW.of (by decide) (EL.c1 rfl (EL.nn EL.n0)) (fun Γ h hq hnm hde hxt => ?_)
  refine v_aload_n (n' := 1) h dX0_shelf_0 rfl rfl ?_
  refine v_new (n' := 4) (ci := 3) h rfl in_X3 tyX3 tyX3_ok q267 q268 q88 (fs := dvX3) dvX3_ok dX0_shelf_1 rfl (rmC (by omega)) (rmS (by omega)) (fun a1 n1 => ?_)
  refine v_dup (n' := 5) h dX0_shelf_4 rfl rfl ?_
  refine v_aload_n (n' := 6) h dX0_shelf_5 rfl rfl ?_
  refine vc_callIN (n' := 9) h ((c_rinit de _ a1 ax upH_s).d hde) q271 q88 q269 q270 rfl hdX3_init ⟨by omega, by decide⟩ ⟨by omega, by omega⟩ (Nat.le_of_ble_eq_true rfl) dX0_shelf_6 rfl (eV fun hp6 p6 => ?_) rfl
  obtain ⟨el, hel, e6⟩ := p6
  subst e6
  have R0 := RS.init (de := de) (ax := ax) (g := sPg s) n1 hel
  refine v_rshelf (n' := 12) h hde hP R0 (by first | assumption | exact upH_s | exact (upH_n (by assumption)).trans (by assumption) | exact (upH_n (by assumption)).trans upH_s | exact (upH_n (by assumption)).trans ((upH_n (by assumption)).trans (by assumption))) (lw_V q298 q299 q300 q88 q301) (by omega) ⟨by omega, by omega⟩ (Nat.le_of_ble_eq_true rfl) dX0_shelf_9 rfl (fun c9 x9 hp9 s9 f9 => ?_) (fun c9 => ?_)
  · obtain ⟨fs, e1, e2⟩ := s9.2.1
    have H2 := hH.ext f9
    refine VT.into (ci := 4) h hxt ⟨by decide, by decide⟩ (by decide) q266 rfl e1 q317 ?_
    refine v_astore1 (n' := 44) h dX0_shelf_43 rfl rfl ?_
    refine v_bipush (n' := 46) h dX0_shelf_44 rfl (by decide) ?_
    refine v_iret h hq dX0_shelf_46 (by omega) (by omega) (ret_i ?_)
    rw [bad s9.2.2]; exact ⟨rfl, W, A, t, kt, σ, ad, H2, hX⟩
  · obtain ⟨⟨xs, hp9⟩, ok9, l9, R9⟩ := c9
    dsimp only at ok9 l9 R9 ⊢
    have hx9 := (hH.ext R9.1).1.1
    refine vc_callV (n' := 15) (ci := 0) h ((c_fill de hp hp9 W ax A t kt σ ad s n hH hX hi ok9 a1 el xs l9 R9).d hde) rfl (by first | assumption | exact upH_s | exact (upH_n (by assumption)).trans (by assumption) | exact (upH_n (by assumption)).trans upH_s | exact (upH_n (by assumption)).trans ((upH_n (by assumption)).trans (by assumption))) (lw_V q542 q544 qs10 q82 q545) hdX0_fill ⟨by omega, by decide⟩ ⟨by omega, by omega⟩ (Nat.le_of_ble_eq_true rfl) dX0_shelf_12 rfl (eV fun hp12 p12 => ?_) rfl
    obtain ⟨t', ad', σ', H12, L12, e1, e2⟩ := p12
    have hx12 := H12.1.1
    have ht12 := H12.2.2.1.1
    have hb1 := e1 1 (by decide)
    refine v_aload_n (n' := 16) h dX0_shelf_15 rfl rfl ?_
    refine v_dup (n' := 17) h dX0_shelf_16 rfl rfl ?_
    refine v_get (n' := 20) (ci := 0) h rfl in_X0 1 (by decide) q189 rfl dX0_shelf_17 rfl (by first | assumption | exact upH_s | exact (upH_n (by assumption)).trans (by assumption) | exact (upH_n (by assumption)).trans upH_s | exact (upH_n (by assumption)).trans ((upH_n (by assumption)).trans (by assumption))) (by rfl) ?_
    refine v_iconst (n' := 21) h dX0_shelf_20 rfl ?_
    refine v_iadd (n' := 22) h dX0_shelf_21 rfl ?_
    refine v_put (n' := 25) (ci := 0) h rfl in_X0 tyX0 tyX0_ok nmX0 1 (by decide) q189 rfl rfl dX0_shelf_22 rfl (by first | assumption | exact upH_s | exact (upH_n (by assumption)).trans (by assumption) | exact (upH_n (by assumption)).trans upH_s | exact (upH_n (by assumption)).trans ((upH_n (by assumption)).trans (by assumption))) (by show 1 < 20; decide) rfl rfl ?_
    have H25 := H12.wI (f := 1) (v := σ'.1 1 + 1) (by decide)
    have hx25 := H25.1.1
    refine v_aload_n (n' := 26) h dX0_shelf_25 rfl rfl ?_
    refine v_iconst (n' := 27) h dX0_shelf_26 rfl ?_
    refine v_put (n' := 30) (ci := 0) h rfl in_X0 tyX0 tyX0_ok nmX0 6 (by decide) q196 rfl rfl dX0_shelf_27 rfl (by first | assumption | exact upH_s | exact (upH_n (by assumption)).trans (by assumption) | exact (upH_n (by assumption)).trans upH_s | exact (upH_n (by assumption)).trans ((upH_n (by assumption)).trans (by assumption))) (by show 6 < 20; decide) rfl rfl ?_
    have H30 := H25.wI (f := 6) (v := 0) (by decide)
    have hx30 := H30.1.1
    refine v_aload_n (n' := 31) h dX0_shelf_30 rfl rfl ?_
    refine v_iconst (n' := 32) h dX0_shelf_31 rfl ?_
    refine v_put (n' := 35) (ci := 0) h rfl in_X0 tyX0 tyX0_ok nmX0 3 (by decide) q193 rfl rfl dX0_shelf_32 rfl (by first | assumption | exact upH_s | exact (upH_n (by assumption)).trans (by assumption) | exact (upH_n (by assumption)).trans upH_s | exact (upH_n (by assumption)).trans ((upH_n (by assumption)).trans (by assumption))) (by show 3 < 20; decide) rfl rfl ?_
    have H35 := H30.wI (f := 3) (v := 0) (by decide)
    have hx35 := H35.1.1
    have ht35 := H35.2.2.1.1
    refine v_aload_n (n' := 36) h dX0_shelf_35 rfl rfl ?_
    refine v_get (n' := 39) (ci := 0) h rfl in_X0 0 (by decide) q188 rfl dX0_shelf_36 rfl (by first | assumption | exact upH_s | exact (upH_n (by assumption)).trans (by assumption) | exact (upH_n (by assumption)).trans upH_s | exact (upH_n (by assumption)).trans ((upH_n (by assumption)).trans (by assumption))) (by rfl) ?_
    refine v_getN (n' := 42) (ci := 1) h rfl in_X1 4 (by decide) q127 rfl dX0_shelf_39 rfl (by first | assumption | exact upH_s | exact (upH_n (by assumption)).trans (by assumption) | exact (upH_n (by assumption)).trans upH_s | exact (upH_n (by assumption)).trans ((upH_n (by assumption)).trans (by assumption))) (by rfl) ?_
    refine v_iret h hq dX0_shelf_42 (by omega) (by omega) (ret_i ?_)
    rw [gd ok9, ← l9]
    refine ⟨rfl, _, A, t', kt, _, ad', H35, ?_⟩
    obtain ⟨x1, x2, x3, x4, x5, x6⟩ := hX
    refine ⟨?_, rfl, fun i i0 i1 => ?_, ?_, ?_, ?_⟩
    · show σ'.1 1 + 1 = sSh s + 1
      rw [hb1, x1]
    · show σ'.2 2 i = _
      rw [e2 2 (by decide)]
      exact x3 i i0 i1
    · exact L12.cg rfl rfl
    · show CSeen _ 7 8 9 6 (shN (sPg s) (sPg s 0 - 48) (sPg s 1 - 48) (sPg s 3 - 48) xs.length).2.2.2.2
      rw [shN_seen]
      exact ⟨rfl, Nat.zero_le _, fun i hi' => absurd hi' (Nat.not_lt_zero i)⟩
    · intro i
      show (σ'.2 9 i = 0 ∨ σ'.2 9 i = 1) ∧ (σ'.2 19 i = 0 ∨ σ'.2 19 i = 1)
      rw [e2 9 (by decide), e2 19 (by decide)]
      exact x6 i
