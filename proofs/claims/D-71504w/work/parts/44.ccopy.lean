/-! TREES of entries: copies, new trees -/
set_option maxRecDepth 100000
theorem c_copyOf (de : Nat) (W : Nat → Prop) (ad : Nat → Nat) (K U : Nat → Int) : ∀ (T : Tr) (hp : AH), HT hp W ad K U T → Srt T → ∀ d, tz T ≤ d → d ≤ 1000 →
    CtE de yX0_copyOf cX0_copyOf 2 (some (.object "CreditShelf$Entry")) (rmK (d + 6) (tz T) (4 * tz T)) [va_rf ((ro T).map ad)] hp (rQ (fun o hp' => ∃ ad' : Nat → Nat, o = (ro T).map ad' ∧ HT hp' (Fsh hp) ad' K U T ∧ Frm (Fsh hp) hp hp')) := by
  intro T
  induction T with
  | leaf u =>
    intro hp hT hs d hd hd2
    show CtE de yX0_copyOf cX0_copyOf 2 (some (.object "CreditShelf$Entry")) (rmK (d + 6) _ _) [.null] hp _
    refine CtE.of (by decide) (EL.c1 rfl (EL.nn EL.n0)) (fun Γ h hq hnm hde => ?_)
    refine v_aload_nN (n' := 1) h dX0_copyOf_0 rfl rfl ?_
    refine v_ifnonnullZ (n' := 4) h dX0_copyOf_1 rfl ?_
    refine v_null (n' := 5) h dX0_copyOf_4 rfl ?_
    refine v_aret h hq dX0_copyOf_5 (Or.inl ⟨_, rfl⟩) (Or.inl rfl) (by omega) (by omega) (ret_qn ?_)
    exact ⟨ad, rfl, trivial, Frm.rf⟩
  | branch x l r ihl ihr =>
    intro hp hT hs d hd hd2
    obtain ⟨⟨he, hW, hx, hK⟩, hl, hr⟩ := HT.br.mp hT
    obtain ⟨g1, g2, g3, g4⟩ := srt_br.mp hs
    have el : tz (.branch x l r) = tz l + tz r + 1 := rfl
    rw [el] at hd ⊢
    obtain ⟨d, rfl⟩ : ∃ e, d = e + 1 := ⟨d - 1, by omega⟩
    show CtE de yX0_copyOf cX0_copyOf 2 (some (.object "CreditShelf$Entry")) (rmK (d + 1 + 6) _ _) [.ref (ad x)] hp _
    refine CtE.of (by decide) (EL.c1 rfl (EL.nn EL.n0)) (fun Γ h hq hnm hde => ?_)
    refine v_aload_n (n' := 1) h dX0_copyOf_0 rfl rfl ?_
    refine v_ifnonnullR (tgt := 6) h dX0_copyOf_1 rfl ?_
    refine v_aload_n (n' := 7) h dX0_copyOf_6 rfl rfl ?_
    refine v_kind (n' := 10) h (by first | assumption | exact upH_s | exact (upH_n (by assumption)).trans (by assumption) | exact (upH_n (by assumption)).trans upH_s | exact (upH_n (by assumption)).trans ((upH_n (by assumption)).trans (by assumption))) (by omega) q618 dX0_copyOf_7 rfl (Nat.le_of_ble_eq_true rfl) ⟨by omega, by omega⟩ (by omega) ?_
    refine v_aload_n (n' := 11) h dX0_copyOf_10 rfl rfl ?_
    refine v_ekey (n' := 14) h q425 dX0_copyOf_11 rfl (by first | assumption | exact upH_s | exact (upH_n (by assumption)).trans (by assumption) | exact (upH_n (by assumption)).trans upH_s | exact (upH_n (by assumption)).trans ((upH_n (by assumption)).trans (by assumption))) (by omega) ?_
    refine v_aload_n (n' := 15) h dX0_copyOf_14 rfl rfl ?_
    refine v_eval (n' := 18) h q427 dX0_copyOf_15 rfl (by first | assumption | exact upH_s | exact (upH_n (by assumption)).trans (by assumption) | exact (upH_n (by assumption)).trans upH_s | exact (upH_n (by assumption)).trans ((upH_n (by assumption)).trans (by assumption))) (by omega) ?_
    refine vc_callS (n' := 21) h ((c_made de hp (K x).toNat x (U x) (by omega)).d hde) (lw_S q710 q413 q82 q414) hdX0_made ⟨by omega, by decide⟩ ⟨by omega, by omega⟩ (Nat.le_of_ble_eq_true rfl) dX0_copyOf_18 rfl (eR fun z18 hp18 p18 => ?_) rfl
    obtain ⟨n18, p18⟩ := p18
    subst p18
    have nxz : ad x ≠ z18 := free_ne he n18
    have F18 : Frm (Fsh hp) hp (upH hp z18 (eO (K x).toNat x (U x) none none)) := Frm.up n18
    refine v_astore1 (n' := 22) h dX0_copyOf_21 rfl rfl ?_
    refine v_aload_n (n' := 23) h dX0_copyOf_22 rfl rfl ?_
    refine v_aload_n (n' := 24) h dX0_copyOf_23 rfl rfl ?_
    refine v_eleft (n' := 27) h q429 dX0_copyOf_24 rfl (by first | assumption | exact upH_s | exact (upH_n (by assumption)).trans (by assumption) | exact (upH_n (by assumption)).trans upH_s | exact (upH_n (by assumption)).trans ((upH_n (by assumption)).trans (by assumption))) (by omega) ?_
    refine vc_callS (n' := 30) h ((ihl _ (hl.ex (fun q e => F18.ex)) g1 d (by omega) (by omega)).d hde) (lw_S q831 q829 q82 q830) hdX0_copyOf ⟨by omega, by decide⟩ ⟨by omega, by omega⟩ (Nat.le_of_ble_eq_true rfl) dX0_copyOf_27 rfl (eQ fun z27 hp27 p27 => ?_) rfl
    obtain ⟨ad1, ez27, T27, F27⟩ := p27
    subst ez27
    have hz27 := F27.ex (upH_s (hp := hp) (a := z18) (e := eO (K x).toNat x (U x) none none))
    have he27 := F27.ex (F18.ex he)
    refine v_pleft (n' := 33) h q429 dX0_copyOf_30 rfl (by first | assumption | exact upH_s | exact (upH_n (by assumption)).trans (by assumption) | exact (upH_n (by assumption)).trans upH_s | exact (upH_n (by assumption)).trans ((upH_n (by assumption)).trans (by assumption))) (by omega) ?_
    refine v_aload_n (n' := 34) h dX0_copyOf_33 rfl rfl ?_
    refine v_aload_n (n' := 35) h dX0_copyOf_34 rfl rfl ?_
    refine v_eright (n' := 38) h q431 dX0_copyOf_35 rfl (by first | assumption | exact upH_s | exact (upH_n (by assumption)).trans (by assumption) | exact (upH_n (by assumption)).trans upH_s | exact (upH_n (by assumption)).trans ((upH_n (by assumption)).trans (by assumption))) (by omega) ?_
    refine vc_callS (n' := 41) h ((ihr (upH hp27 z18 (eO (K x).toNat x (U x) ((ro l).map ad1) none)) (hr.ex (fun q e hq => (upH_n (show q ≠ z18 from fun z => by rw [z, n18] at hq; cases hq)).trans (F27.ex (F18.ex hq)))) g2 d (by omega) (by omega)).d hde) (lw_S q831 q829 q82 q830) hdX0_copyOf ⟨by omega, by decide⟩ ⟨by omega, by omega⟩ (Nat.le_of_ble_eq_true rfl) dX0_copyOf_38 rfl (eQ fun z38 hp38 p38 => ?_) rfl
    obtain ⟨ad2, ez38, T38, F38⟩ := p38
    subst ez38
    have hz38 := F38.ex (upH_s (hp := hp27) (a := z18) (e := eO (K x).toNat x (U x) ((ro l).map ad1) none))
    refine v_pright (n' := 44) h q431 dX0_copyOf_41 rfl (by first | assumption | exact upH_s | exact (upH_n (by assumption)).trans (by assumption) | exact (upH_n (by assumption)).trans upH_s | exact (upH_n (by assumption)).trans ((upH_n (by assumption)).trans (by assumption))) (by omega) ?_
    refine v_aload_n (n' := 45) h dX0_copyOf_44 rfl rfl ?_
    refine v_aret h hq dX0_copyOf_45 (Or.inl ⟨_, rfl⟩) (Or.inr ⟨_, rfl⟩) (by omega) (by omega) (ret_qs ?_)
    have i1 : ∀ y ∈ tl l, ad1 y ≠ z18 ∧ hp (ad1 y) = none := by
      intro y hy
      obtain ⟨_, _, _, w1, _⟩ := T27.at hy
      have w1 : upH hp z18 (eO (K x).toNat x (U x) none none) (ad1 y) = none := w1
      have hne : ad1 y ≠ z18 := fun z => by rw [z, upH_s] at w1; cases w1
      exact ⟨hne, by rw [upH_n hne] at w1; exact w1⟩
    have i2 : ∀ y ∈ tl r, ad2 y ≠ z18 ∧ hp27 (ad2 y) = none := by
      intro y hy
      obtain ⟨_, _, _, w1, _⟩ := T38.at hy
      have w1 : upH hp27 z18 (eO (K x).toNat x (U x) ((ro l).map ad1) none) (ad2 y) = none := w1
      have hne : ad2 y ≠ z18 := fun z => by rw [z, upH_s] at w1; cases w1
      exact ⟨hne, by rw [upH_n hne] at w1; exact w1⟩
    have FF : Frm (Fsh hp) hp hp38 := by
      intro q hq
      have hqn : q ≠ z18 := fun z => hq (by rw [z]; exact n18)
      have h0 : hp q ≠ none := hq
      have e1 : hp27 q = hp q := by
        rw [F27 q (fun z => h0 (by rw [← z]; exact (upH_n hqn).symm)), upH_n hqn]
      rw [F38 q (fun z => h0 (by rw [← e1, ← z]; exact (upH_n hqn).symm)), upH_n hqn, e1]
    have i3 : ∀ y ∈ tl r, hp (ad2 y) = none := by
      intro y hy
      apply Classical.byContradiction
      intro c
      have q := (i2 y hy).2
      cases hc : hp (ad2 y) with
      | none => exact c hc
      | some e => rw [F27.ex (F18.ex hc)] at q; cases q
    refine ⟨fun y => if y = x then z18 else if y < x then ad1 y else ad2 y, congrArg some (if_pos rfl).symm, HT.br.mpr ⟨⟨?_, ?_, hx, hK⟩, ?_, ?_⟩, FF.tr (Frm.up n18)⟩
    · have m1 : (ro l).map (fun y => if y = x then z18 else if y < x then ad1 y else ad2 y) = (ro l).map ad1 := ro_map (fun y hy => by have := g3 y hy; rw [if_neg (by omega), if_pos this])
      have m2 : (ro r).map (fun y => if y = x then z18 else if y < x then ad1 y else ad2 y) = (ro r).map ad2 := ro_map (fun y hy => by have := g4 y hy; rw [if_neg (by omega), if_neg (by omega)])
      rw [if_pos rfl, upH_s, m1, m2]
    · rw [if_pos rfl]
      exact n18
    · refine T27.cg (fun y hy => ⟨by have := g3 y hy; rw [if_neg (by omega), if_pos this], rfl, rfl, ?_, fun _ => (i1 y hy).2⟩)
      rw [upH_n (i1 y hy).1]
      obtain ⟨_, _, q1, _⟩ := T27.at hy
      rw [F38 _ (fun z => by have z : upH hp27 z18 _ (ad1 y) = none := z; rw [upH_n (i1 y hy).1, q1] at z; cases z), upH_n (i1 y hy).1]
    · refine T38.cg (fun y hy => ⟨by have := g4 y hy; rw [if_neg (by omega), if_neg (by omega)], rfl, rfl, upH_n (i2 y hy).1, fun _ => i3 y hy⟩)
def dvX1 : List Value := [.null, .int (iI 0), .int (iI 0), .int (iI 0), .int (iI 0), .int (iI 0), .int (iI 0), .int (iI 0), .int (iI 0), .int (iI 0)]
theorem dvX1_ok : ∀ j, j < 10 → defaultValue (tyX1 j) = vp_V dvX1 j := by decide
theorem c_tinit (de : Nat) (hp : AH) (a : Nat) : CtE de yX1_init cX1_init 1 none (rmK 2 0 0) [.ref a] hp (rV (fun hp' => hp' = hp)) := by
  refine CtE.of (by decide) (EL.c1 rfl EL.n0) (fun Γ h hq hnm hde => ?_)
  refine v_aload_n (n' := 1) h dX1_init_0 rfl rfl ?_
  refine v_objInit (n' := 4) h q117 q110 q111 dX1_init_1 rfl (rm1 (by omega)) (Nat.le_of_ble_eq_true rfl) ?_
  refine v_vret h hq dX1_init_4 (by omega) (by omega) (ret_v ?_)
  rfl
theorem c_empty (de : Nat) (hp : AH) (t : Nat) (ht : hp t = some (.inr (1, dvX1))) (a b f : Int) : CtE de yX1_empty cX1_empty 4 (some (.object "CreditShelf$Tree")) (rmK 1 0 0) [.ref t, .int (iI a), .int (iI b), .int (iI f)] hp (rR (fun z hp' => z = t ∧ hp' = upH hp t (tO none a b f 0 0 0 0 0 0))) := by
  refine CtE.of (by decide) (EL.c1 rfl (EL.c1 rfl (EL.c1 rfl (EL.c1 rfl EL.n0)))) (fun Γ h hq hnm hde => ?_)
  refine v_aload_n (n' := 1) h dX1_empty_0 rfl rfl ?_
  refine v_iload_n (n' := 2) h dX1_empty_1 rfl rfl ?_
  refine v_put (n' := 5) (ci := 1) h rfl in_X1 tyX1 tyX1_ok nmX1 1 (by decide) q120 rfl rfl dX1_empty_2 rfl (by first | assumption | exact upH_s | exact (upH_n (by assumption)).trans (by assumption) | exact (upH_n (by assumption)).trans upH_s | exact (upH_n (by assumption)).trans ((upH_n (by assumption)).trans (by assumption))) (by show 1 < 10; decide) rfl rfl ?_
  refine v_aload_n (n' := 6) h dX1_empty_5 rfl rfl ?_
  refine v_iload_n (n' := 7) h dX1_empty_6 rfl rfl ?_
  refine v_put (n' := 10) (ci := 1) h rfl in_X1 tyX1 tyX1_ok nmX1 2 (by decide) q122 rfl rfl dX1_empty_7 rfl (by first | assumption | exact upH_s | exact (upH_n (by assumption)).trans (by assumption) | exact (upH_n (by assumption)).trans upH_s | exact (upH_n (by assumption)).trans ((upH_n (by assumption)).trans (by assumption))) (by show 2 < 10; decide) rfl rfl ?_
  refine v_aload_n (n' := 11) h dX1_empty_10 rfl rfl ?_
  refine v_iload_n (n' := 12) h dX1_empty_11 rfl rfl ?_
  refine v_put (n' := 15) (ci := 1) h rfl in_X1 tyX1 tyX1_ok nmX1 3 (by decide) q124 rfl rfl dX1_empty_12 rfl (by first | assumption | exact upH_s | exact (upH_n (by assumption)).trans (by assumption) | exact (upH_n (by assumption)).trans upH_s | exact (upH_n (by assumption)).trans ((upH_n (by assumption)).trans (by assumption))) (by show 3 < 10; decide) rfl rfl ?_
  refine v_aload_n (n' := 16) h dX1_empty_15 rfl rfl ?_
  refine v_aret h hq dX1_empty_16 (Or.inl ⟨_, rfl⟩) (Or.inr ⟨_, rfl⟩) (by omega) (by omega) (ret_r ?_)
  exact ⟨rfl, by rw [upH_up, upH_up]; rfl⟩
theorem c_like (de : Nat) (hp : AH) (W : Nat → Prop) (t : Nat) (ad : Nat → Nat) (K U : Nat → Int) (a b f : Int) (te : Tre) (hTT : TT hp W t ad K U a b f te) (hs : Srt te.1) (hz : tz te.1 ≤ 40) (t2 : Nat) (h2 : hp t2 = some (.inr (1, dvX1))) (hne : t ≠ t2) :
    CtE de yX1_like cX1_like 2 (some (.object "CreditShelf$Tree")) (rmK 50 40 160) [.ref t2, .ref t] hp (rR (fun z hp' => z = t2 ∧ Frm (fun q => Fsh hp q ∨ q = t2) hp hp' ∧ ∃ ad' : Nat → Nat, TT hp' (fun q => Fsh hp q ∨ q = t2) t2 ad' K U a b f te)) := by
  obtain ⟨ht, hWt, hT⟩ := hTT
  obtain ⟨T, mo, bu, co, cr, lo⟩ := te
  dsimp only at ht hT hs hz ⊢
  have ht : hp t = some (tO ((ro T).map ad) a b f (tz T : Int) mo cr lo bu co) := ht
  refine CtE.of (by decide) (EL.c1 rfl (EL.c1 rfl EL.n0)) (fun Γ h hq hnm hde => ?_)
  refine v_aload_n (n' := 1) h dX1_like_0 rfl rfl ?_
  refine v_aload_n (n' := 2) h dX1_like_1 rfl rfl ?_
  refine v_get (n' := 5) (ci := 1) h rfl in_X1 0 (by decide) q118 rfl dX1_like_2 rfl (by first | assumption | exact upH_s | exact (upH_n (by assumption)).trans (by assumption) | exact (upH_n (by assumption)).trans upH_s | exact (upH_n (by assumption)).trans ((upH_n (by assumption)).trans (by assumption))) (by rfl) ?_
  refine vc_callSN (n' := 8) h ((c_copyOf de W ad K U T hp hT hs 40 (by omega) (by omega)).d hde) q830 q82 q828 q829 hdX0_copyOf ⟨by omega, by decide⟩ ⟨by omega, by omega⟩ (Nat.le_of_ble_eq_true rfl) dX1_like_5 rfl (eQ fun z5 hp5 p5 => ?_) rfl
  obtain ⟨ad', ez5, T5, F5⟩ := p5
  subst ez5
  have ht5 := F5.ex ht
  have h25 := F5.ex h2
  refine V.widen (k2 := 40) (n2 := 160) (by omega) (by omega) ?_
  refine v_put (n' := 11) (ci := 1) h rfl in_X1 tyX1 tyX1_ok nmX1 0 (by decide) q118 rfl rfl dX1_like_8 rfl (by first | assumption | exact upH_s | exact (upH_n (by assumption)).trans (by assumption) | exact (upH_n (by assumption)).trans upH_s | exact (upH_n (by assumption)).trans ((upH_n (by assumption)).trans (by assumption))) (by show 0 < 10; decide) (nr_rf _ _) (ft_rf _ _) ?_
  refine v_aload_n (n' := 12) h dX1_like_11 rfl rfl ?_
  refine v_aload_n (n' := 13) h dX1_like_12 rfl rfl ?_
  refine v_get (n' := 16) (ci := 1) h rfl in_X1 1 (by decide) q120 rfl dX1_like_13 rfl (by first | assumption | exact upH_s | exact (upH_n (by assumption)).trans (by assumption) | exact (upH_n (by assumption)).trans upH_s | exact (upH_n (by assumption)).trans ((upH_n (by assumption)).trans (by assumption))) (by rfl) ?_
  refine v_put (n' := 19) (ci := 1) h rfl in_X1 tyX1 tyX1_ok nmX1 1 (by decide) q120 rfl rfl dX1_like_16 rfl (by first | assumption | exact upH_s | exact (upH_n (by assumption)).trans (by assumption) | exact (upH_n (by assumption)).trans upH_s | exact (upH_n (by assumption)).trans ((upH_n (by assumption)).trans (by assumption))) (by show 1 < 10; decide) rfl rfl ?_
  rw [upH_up]
  refine v_aload_n (n' := 20) h dX1_like_19 rfl rfl ?_
  refine v_aload_n (n' := 21) h dX1_like_20 rfl rfl ?_
  refine v_get (n' := 24) (ci := 1) h rfl in_X1 2 (by decide) q122 rfl dX1_like_21 rfl (by first | assumption | exact upH_s | exact (upH_n (by assumption)).trans (by assumption) | exact (upH_n (by assumption)).trans upH_s | exact (upH_n (by assumption)).trans ((upH_n (by assumption)).trans (by assumption))) (by rfl) ?_
  refine v_put (n' := 27) (ci := 1) h rfl in_X1 tyX1 tyX1_ok nmX1 2 (by decide) q122 rfl rfl dX1_like_24 rfl (by first | assumption | exact upH_s | exact (upH_n (by assumption)).trans (by assumption) | exact (upH_n (by assumption)).trans upH_s | exact (upH_n (by assumption)).trans ((upH_n (by assumption)).trans (by assumption))) (by show 2 < 10; decide) rfl rfl ?_
  rw [upH_up]
  refine v_aload_n (n' := 28) h dX1_like_27 rfl rfl ?_
  refine v_aload_n (n' := 29) h dX1_like_28 rfl rfl ?_
  refine v_get (n' := 32) (ci := 1) h rfl in_X1 3 (by decide) q124 rfl dX1_like_29 rfl (by first | assumption | exact upH_s | exact (upH_n (by assumption)).trans (by assumption) | exact (upH_n (by assumption)).trans upH_s | exact (upH_n (by assumption)).trans ((upH_n (by assumption)).trans (by assumption))) (by rfl) ?_
  refine v_put (n' := 35) (ci := 1) h rfl in_X1 tyX1 tyX1_ok nmX1 3 (by decide) q124 rfl rfl dX1_like_32 rfl (by first | assumption | exact upH_s | exact (upH_n (by assumption)).trans (by assumption) | exact (upH_n (by assumption)).trans upH_s | exact (upH_n (by assumption)).trans ((upH_n (by assumption)).trans (by assumption))) (by show 3 < 10; decide) rfl rfl ?_
  rw [upH_up]
  refine v_aload_n (n' := 36) h dX1_like_35 rfl rfl ?_
  refine v_aload_n (n' := 37) h dX1_like_36 rfl rfl ?_
  refine v_get (n' := 40) (ci := 1) h rfl in_X1 4 (by decide) q126 rfl dX1_like_37 rfl (by first | assumption | exact upH_s | exact (upH_n (by assumption)).trans (by assumption) | exact (upH_n (by assumption)).trans upH_s | exact (upH_n (by assumption)).trans ((upH_n (by assumption)).trans (by assumption))) (by rfl) ?_
  refine v_put (n' := 43) (ci := 1) h rfl in_X1 tyX1 tyX1_ok nmX1 4 (by decide) q126 rfl rfl dX1_like_40 rfl (by first | assumption | exact upH_s | exact (upH_n (by assumption)).trans (by assumption) | exact (upH_n (by assumption)).trans upH_s | exact (upH_n (by assumption)).trans ((upH_n (by assumption)).trans (by assumption))) (by show 4 < 10; decide) rfl rfl ?_
  rw [upH_up]
  refine v_aload_n (n' := 44) h dX1_like_43 rfl rfl ?_
  refine v_aload_n (n' := 45) h dX1_like_44 rfl rfl ?_
  refine v_get (n' := 48) (ci := 1) h rfl in_X1 5 (by decide) q128 rfl dX1_like_45 rfl (by first | assumption | exact upH_s | exact (upH_n (by assumption)).trans (by assumption) | exact (upH_n (by assumption)).trans upH_s | exact (upH_n (by assumption)).trans ((upH_n (by assumption)).trans (by assumption))) (by rfl) ?_
  refine v_put (n' := 51) (ci := 1) h rfl in_X1 tyX1 tyX1_ok nmX1 5 (by decide) q128 rfl rfl dX1_like_48 rfl (by first | assumption | exact upH_s | exact (upH_n (by assumption)).trans (by assumption) | exact (upH_n (by assumption)).trans upH_s | exact (upH_n (by assumption)).trans ((upH_n (by assumption)).trans (by assumption))) (by show 5 < 10; decide) rfl rfl ?_
  rw [upH_up]
  refine v_aload_n (n' := 52) h dX1_like_51 rfl rfl ?_
  refine v_aload_n (n' := 53) h dX1_like_52 rfl rfl ?_
  refine v_get (n' := 56) (ci := 1) h rfl in_X1 6 (by decide) q130 rfl dX1_like_53 rfl (by first | assumption | exact upH_s | exact (upH_n (by assumption)).trans (by assumption) | exact (upH_n (by assumption)).trans upH_s | exact (upH_n (by assumption)).trans ((upH_n (by assumption)).trans (by assumption))) (by rfl) ?_
  refine v_put (n' := 59) (ci := 1) h rfl in_X1 tyX1 tyX1_ok nmX1 6 (by decide) q130 rfl rfl dX1_like_56 rfl (by first | assumption | exact upH_s | exact (upH_n (by assumption)).trans (by assumption) | exact (upH_n (by assumption)).trans upH_s | exact (upH_n (by assumption)).trans ((upH_n (by assumption)).trans (by assumption))) (by show 6 < 10; decide) rfl rfl ?_
  rw [upH_up]
  refine v_aload_n (n' := 60) h dX1_like_59 rfl rfl ?_
  refine v_aload_n (n' := 61) h dX1_like_60 rfl rfl ?_
  refine v_get (n' := 64) (ci := 1) h rfl in_X1 7 (by decide) q132 rfl dX1_like_61 rfl (by first | assumption | exact upH_s | exact (upH_n (by assumption)).trans (by assumption) | exact (upH_n (by assumption)).trans upH_s | exact (upH_n (by assumption)).trans ((upH_n (by assumption)).trans (by assumption))) (by rfl) ?_
  refine v_put (n' := 67) (ci := 1) h rfl in_X1 tyX1 tyX1_ok nmX1 7 (by decide) q132 rfl rfl dX1_like_64 rfl (by first | assumption | exact upH_s | exact (upH_n (by assumption)).trans (by assumption) | exact (upH_n (by assumption)).trans upH_s | exact (upH_n (by assumption)).trans ((upH_n (by assumption)).trans (by assumption))) (by show 7 < 10; decide) rfl rfl ?_
  rw [upH_up]
  refine v_aload_n (n' := 68) h dX1_like_67 rfl rfl ?_
  refine v_aload_n (n' := 69) h dX1_like_68 rfl rfl ?_
  refine v_get (n' := 72) (ci := 1) h rfl in_X1 8 (by decide) q134 rfl dX1_like_69 rfl (by first | assumption | exact upH_s | exact (upH_n (by assumption)).trans (by assumption) | exact (upH_n (by assumption)).trans upH_s | exact (upH_n (by assumption)).trans ((upH_n (by assumption)).trans (by assumption))) (by rfl) ?_
  refine v_put (n' := 75) (ci := 1) h rfl in_X1 tyX1 tyX1_ok nmX1 8 (by decide) q134 rfl rfl dX1_like_72 rfl (by first | assumption | exact upH_s | exact (upH_n (by assumption)).trans (by assumption) | exact (upH_n (by assumption)).trans upH_s | exact (upH_n (by assumption)).trans ((upH_n (by assumption)).trans (by assumption))) (by show 8 < 10; decide) rfl rfl ?_
  rw [upH_up]
  refine v_aload_n (n' := 76) h dX1_like_75 rfl rfl ?_
  refine v_aload_n (n' := 77) h dX1_like_76 rfl rfl ?_
  refine v_get (n' := 80) (ci := 1) h rfl in_X1 9 (by decide) q136 rfl dX1_like_77 rfl (by first | assumption | exact upH_s | exact (upH_n (by assumption)).trans (by assumption) | exact (upH_n (by assumption)).trans upH_s | exact (upH_n (by assumption)).trans ((upH_n (by assumption)).trans (by assumption))) (by rfl) ?_
  refine v_put (n' := 83) (ci := 1) h rfl in_X1 tyX1 tyX1_ok nmX1 9 (by decide) q136 rfl rfl dX1_like_80 rfl (by first | assumption | exact upH_s | exact (upH_n (by assumption)).trans (by assumption) | exact (upH_n (by assumption)).trans upH_s | exact (upH_n (by assumption)).trans ((upH_n (by assumption)).trans (by assumption))) (by show 9 < 10; decide) rfl rfl ?_
  rw [upH_up]
  refine v_aload_n (n' := 84) h dX1_like_83 rfl rfl ?_
  refine v_aret h hq dX1_like_84 (Or.inl ⟨_, rfl⟩) (Or.inr ⟨_, rfl⟩) (by omega) (by omega) (ret_r ?_)
  refine ⟨rfl, ?_, ad', upH_s, Or.inr rfl, ?_⟩
  · exact (F5.wk (fun q z => Or.inl z)).tr (Frm.up (Or.inr rfl))
  · refine (T5.cg (W' := fun q => Fsh hp q ∨ q = t2) (fun x hx => ⟨rfl, rfl, rfl, rfl, fun w => Or.inl w⟩)).frm (fun x hx => upH_n (fun z => ?_))
    obtain ⟨_, _, _, w1, _⟩ := T5.at hx
    have w1 : hp (ad' x) = none := w1
    rw [z, h2] at w1
    cases w1
