/-! THE CLASS: fault -/
set_option maxRecDepth 100000
section VS
variable {Γ : GX} {k m : Nat} {hp : AH} {pc n' : Nat} {L : List (Option Value)} {st : List Value} {cc : ByteArray} {own : String} {ret : Option FieldType} {l' c' s' : Nat} {de r ax el i : Nat} {n : Int} {g : Int → Int} {hp0 : AH}
theorem v_rshelf (h : Ok0 cc own ret (rmK l' c' s') Γ) (hde : (gD Γ).2.2.1 = de) (hP : PG hp0 ax n g) (R0 : RS de hp0 hp r el ax 0 0 0 0 [] g) (hr : hp r = some (rO 0 0 0 0 el ax)) (hw : GoodIn lw_all (wsV own i yX3_shelf.cls yX3_shelf (ws_ yX3_shelf cX3_shelf 1 (some (.object "CreditShelf$Reader"))))) (hR : 10 ≤ l') (hf : k + 10 ≤ c' ∧ m + 80 ≤ s') (hst : (st.map fun v => v.category).sum ≤ 8) (d : decode cc pc = .ok (.invokevirtual i, 3)) (hn : pc + 3 = n')
    (kf : ∀ z x hp', (Flt g n z ∧ StpO hp' x z ∧ ¬ PageOk g n) → Frm (Fsh hp0) hp0 hp' → VT Γ (k + 10) (m + 80) hp' pc L st x)
    (kt : ∀ c : {w : List Nat × AH // PageOk g n ∧ w.1.length = ((n - 4) / 6).toNat ∧ RS de hp0 w.2 r el ax n (g 0 - 48) (g 1 - 48) (g 3 - 48) w.1 g}, V Γ (k + 10) (m + 80) c.1.2 n' L (.ref r :: st)) : V Γ k m hp pc L (.ref r :: st) := by
  by_cases c : PageOk g n
  · exact vc_callV (ci := 3) h ((c_rshelf de hp0 hp r el ax n g hP R0 c).d hde) rfl hr hw hdX3_shelf ⟨by omega, by decide⟩ hf hst d hn (eR fun z hp' e => by
      obtain ⟨e0, xs, e1, e2⟩ := e
      subst e0
      exact kt ⟨(xs, hp'), c, e1, e2⟩) rfl
  · exact vt_callV (ci := 3) h ((t_rshelf de hp0 hp r el ax n g hP R0 c).d hde) rfl hr hw (hw _ (by unfold wsV; simp)).1 q88 hdX3_shelf ⟨by omega, by decide⟩ hf hst d (fun x hp' e => by
      obtain ⟨z, e1, e2, e3⟩ := e
      exact kf z x hp' ⟨e1, e2, c⟩ e3) rfl
end VS
theorem PG_of {de : Nat} {hp : AH} {W : Nat → Prop} {ax : Nat} {A : Nat → Nat} {t : Nat} {kt : Option Nat} {σ : MS} {ad : Nat → Nat} {s : SS} {n : Int} (hH : CH de hp W ax A t kt σ ad s) (hX : XS σ s) (hi : SInv s n) : PG hp ax (sPn s) (sPg s) :=
  ⟨hi.2.1, hi.1, A, t, kt, σ, hH.1.1, (hH.1.2.2.1 2 (by decide)).1, hX.2.1, hX.2.2.1⟩
theorem k_fault (de : Nat) (hp : AH) (ax : Nat) (s : SS) (n : Int) (hC : CRel de hp ax s) (hi : SInv s n) : CtW de yX0_fault cX0_fault 2 (some .int) [(0, 16, 17, 126)] (rmK 10 12 100) [.ref ax] hp (rI (fun z hp' => Flt (sPg s) (sPn s) z ∧ CRel de hp' ax s)) := by
  obtain ⟨W, A, t, kt, σ, ad, hH, hX⟩ := hC
  have hP := PG_of hH hX hi
  have e3 : σ.1 3 = sPn s := hX.2.1
  refine CtW.of (by decide) (EL.c1 rfl (EL.nn EL.n0)) (fun Γ h hq hnm hde hxt => ?_)
  refine v_new (n' := 3) (ci := 3) h rfl in_X3 tyX3 tyX3_ok q267 q268 q88 (fs := dvX3) dvX3_ok dX0_fault_0 rfl (rmC (by omega)) (rmS (by omega)) (fun a0 n0 => ?_)
  refine v_dup (n' := 4) h dX0_fault_3 rfl rfl ?_
  refine v_aload_n (n' := 5) h dX0_fault_4 rfl rfl ?_
  refine vc_callIN (n' := 8) h ((c_rinit de _ a0 ax upH_s).d hde) q271 q88 q269 q270 rfl hdX3_init ⟨by omega, by decide⟩ ⟨by omega, by omega⟩ (Nat.le_of_ble_eq_true rfl) dX0_fault_5 rfl (eV fun hp5 p5 => ?_) rfl
  obtain ⟨el, hel, e5⟩ := p5
  subst e5
  have R0 := RS.init (de := de) (ax := ax) (g := sPg s) n0 hel
  refine v_rshelf (n' := 11) h hde hP R0 (by first | assumption | exact upH_s | exact (upH_n (by assumption)).trans (by assumption) | exact (upH_n (by assumption)).trans upH_s | exact (upH_n (by assumption)).trans ((upH_n (by assumption)).trans (by assumption))) (lw_V q298 q299 q300 q88 q301) (by omega) ⟨by omega, by omega⟩ (Nat.le_of_ble_eq_true rfl) dX0_fault_8 rfl (fun c8 x8 hp8 s8 f8 => ?_) (fun c8 => ?_)
  · obtain ⟨fs, e1, e2⟩ := s8.2.1
    have H2 := hH.ext f8
    refine VT.into (ci := 4) h hxt ⟨by decide, by decide⟩ (by decide) q266 rfl e1 q317 ?_
    refine v_astore1 (n' := 18) h dX0_fault_17 rfl rfl ?_
    refine v_aload_n (n' := 19) h dX0_fault_18 rfl rfl ?_
    refine v_getN (n' := 22) (ci := 4) h rfl in_X4 6 (by decide) q362 rfl dX0_fault_19 rfl (by first | assumption | exact upH_s | exact (upH_n (by assumption)).trans (by assumption) | exact (upH_n (by assumption)).trans upH_s | exact (upH_n (by assumption)).trans ((upH_n (by assumption)).trans (by assumption))) e2 ?_
    refine v_iret h hq dX0_fault_22 (by omega) (by omega) (ret_i ?_)
    exact ⟨s8.1, W, A, t, kt, σ, ad, H2, hX⟩
  · have H2 := hH.ext c8.2.2.2.1
    have hx2 := H2.1.1
    refine v_pop (n' := 12) h dX0_fault_11 rfl rfl ?_
    refine v_aload_n (n' := 13) h dX0_fault_12 rfl rfl ?_
    refine v_get (n' := 16) (ci := 0) h rfl in_X0 3 (by decide) q193 rfl dX0_fault_13 rfl (by first | assumption | exact upH_s | exact (upH_n (by assumption)).trans (by assumption) | exact (upH_n (by assumption)).trans upH_s | exact (upH_n (by assumption)).trans ((upH_n (by assumption)).trans (by assumption))) (by rfl) ?_
    refine v_iret h hq dX0_fault_16 (by omega) (by omega) (ret_i ?_)
    exact ⟨by rw [e3]; exact c8.2.1.2.1, W, A, t, kt, σ, ad, H2, hX⟩
