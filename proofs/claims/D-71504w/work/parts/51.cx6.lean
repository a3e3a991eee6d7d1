/-! THE CLASS: put, tell -/
set_option maxRecDepth 100000
theorem v_aloadN {Γ : GX} {k n : Nat} {hp : AH} {pc n' : Nat} {L : List (Option Value)} {st : List Value} {cc : ByteArray} {own : String} {ret : Option FieldType} {R : Room} (h : Ok0 cc own ret R Γ) {i : Nat} (d : decode cc pc = .ok (.aload i, 2)) (hn : pc + 2 = n') (hi : L[i]? = some (some .null)) (kk : V Γ k n hp n' L (.null :: st)) : V Γ k n hp pc L st := fun H locs ls a1 a2 a3 a4 => by
  subst hn
  exact lv_aloadN h.1 h.2.1 d (a4.at hi) (kk H locs ls a1 a2 a3 a4)
theorem c_putAnew (de : Nat) (hp : AH) (W : Nat → Prop) (ax : Nat) (A : Nat → Nat) (t : Nat) (kt : Option Nat) (σ : MS) (ad : Nat → Nat) (s : SS) (hH : CH de hp W ax A t kt σ ad s) (hX : XS σ s) (hs : Srt (sC s).1.1) (hz : tz (sC s).1.1 ≤ 40) (k kd : Nat) (hkd : kd < 5) (hk : k ∈ tl (sC s).1.1) (v : Int) :
    CtE de yX0_putAnew cX0_putAnew 5 none (rmK 12 7 136) [.ref ax, .int (iI kd), .ref (ad k), .int (iI v)] hp (rV (fun hp' => CRel de hp' ax (setC s ((sC s).1, fun y => if y = k then (kd : Int) else (sC s).2.1 y, fun y => if y = k then v else (sC s).2.2.1 y, (sC s).2.2.2.1, (sC s).2.2.2.2)))) := by
  have hax := hH.1.1
  have hTT := hH.2.2.1
  obtain ⟨ht, hWt, hT⟩ := hTT
  obtain ⟨sl, sr, hsub⟩ := sub_root hs hk
  have hS2 := hT.sub k
  rw [hsub] at hS2
  obtain ⟨⟨he, hWk, hk100, hK⟩, -, -⟩ := HT.br.mp hS2
  refine CtE.of (by decide) (EL.c1 rfl (EL.c1 rfl (EL.c1 rfl (EL.c1 rfl (EL.nn EL.n0))))) (fun Γ h hq hnm hde => ?_)
  refine v_iload_n (n' := 1) h dX0_putAnew_0 rfl rfl ?_
  refine v_aload_n (n' := 2) h dX0_putAnew_1 rfl rfl ?_
  refine v_ekey (n' := 5) h q425 dX0_putAnew_2 rfl (by first | assumption | exact upH_s | exact (upH_n (by assumption)).trans (by assumption) | exact (upH_n (by assumption)).trans upH_s | exact (upH_n (by assumption)).trans ((upH_n (by assumption)).trans (by assumption))) (by omega) ?_
  refine v_iload_n (n' := 6) h dX0_putAnew_5 rfl rfl ?_
  refine vc_callS (n' := 9) h ((c_made de hp kd k v hkd).d hde) (lw_S q710 q413 q82 q414) hdX0_made ⟨by omega, by decide⟩ ⟨by omega, by omega⟩ (Nat.le_of_ble_eq_true rfl) dX0_putAnew_6 rfl (eR fun z6 hp6 p6 => ?_) rfl
  obtain ⟨n6, p6⟩ := p6
  subst p6
  have nk : ad k ≠ z6 := free_ne he n6
  have nax : ax ≠ z6 := free_ne hax n6
  have nt : t ≠ z6 := free_ne ht n6
  have hWz : W z6 := hH.2.1 z6 n6
  refine v_astore4 (n' := 11) h dX0_putAnew_9 rfl rfl ?_
  refine v_aload (n' := 13) h dX0_putAnew_11 rfl rfl ?_
  refine v_aload_n (n' := 14) h dX0_putAnew_13 rfl rfl ?_
  refine v_eleft (n' := 17) h q429 dX0_putAnew_14 rfl (by first | assumption | exact upH_s | exact (upH_n (by assumption)).trans (by assumption) | exact (upH_n (by assumption)).trans upH_s | exact (upH_n (by assumption)).trans ((upH_n (by assumption)).trans (by assumption))) (by omega) ?_
  refine v_pleft (n' := 20) h q429 dX0_putAnew_17 rfl (by first | assumption | exact upH_s | exact (upH_n (by assumption)).trans (by assumption) | exact (upH_n (by assumption)).trans upH_s | exact (upH_n (by assumption)).trans ((upH_n (by assumption)).trans (by assumption))) hkd ?_
  rw [upH_up]
  refine v_aload (n' := 22) h dX0_putAnew_20 rfl rfl ?_
  refine v_aload_n (n' := 23) h dX0_putAnew_22 rfl rfl ?_
  refine v_eright (n' := 26) h q431 dX0_putAnew_23 rfl (by first | assumption | exact upH_s | exact (upH_n (by assumption)).trans (by assumption) | exact (upH_n (by assumption)).trans upH_s | exact (upH_n (by assumption)).trans ((upH_n (by assumption)).trans (by assumption))) (by omega) ?_
  refine v_pright (n' := 29) h q431 dX0_putAnew_26 rfl (by first | assumption | exact upH_s | exact (upH_n (by assumption)).trans (by assumption) | exact (upH_n (by assumption)).trans upH_s | exact (upH_n (by assumption)).trans ((upH_n (by assumption)).trans (by assumption))) hkd ?_
  rw [upH_up]
  generalize hG : upH hp z6 (eO kd k v ((ro sl).map ad) ((ro sr).map ad)) = hp7
  have F7 : Frm (Fsh hp) hp hp7 := by rw [← hG]; exact Frm.up n6
  have hz7 : hp7 z6 = some (eO kd k v ((ro sl).map ad) ((ro sr).map ad)) := by rw [← hG]; exact upH_s
  have H7 := hH.ext F7
  have hax7 := H7.1.1
  have ht7 := H7.2.2.1.1
  have he7 := F7.ex he
  refine v_aload_n (n' := 30) h dX0_putAnew_29 rfl rfl ?_
  refine v_get (n' := 33) (ci := 0) h rfl in_X0 0 (by decide) q188 rfl dX0_putAnew_30 rfl (by first | assumption | exact upH_s | exact (upH_n (by assumption)).trans (by assumption) | exact (upH_n (by assumption)).trans upH_s | exact (upH_n (by assumption)).trans ((upH_n (by assumption)).trans (by assumption))) (by rfl) ?_
  refine v_aload_n (n' := 34) h dX0_putAnew_33 rfl rfl ?_
  refine v_aload_n (n' := 35) h dX0_putAnew_34 rfl rfl ?_
  refine v_ekey (n' := 38) h q425 dX0_putAnew_35 rfl (by first | assumption | exact upH_s | exact (upH_n (by assumption)).trans (by assumption) | exact (upH_n (by assumption)).trans upH_s | exact (upH_n (by assumption)).trans ((upH_n (by assumption)).trans (by assumption))) (by omega) ?_
  refine vc_callV (n' := 41) (ci := 0) h ((c_above de hp7 W ax A t kt σ ad _ _ _ _ _ _ hax7 H7.2.2.1 hs hz k hk).d hde) rfl (by first | assumption | exact upH_s | exact (upH_n (by assumption)).trans (by assumption) | exact (upH_n (by assumption)).trans upH_s | exact (upH_n (by assumption)).trans ((upH_n (by assumption)).trans (by assumption))) (lw_V q640 q642 qs18 q82 q643) hdX0_above ⟨by omega, by decide⟩ ⟨by omega, by omega⟩ (Nat.le_of_ble_eq_true rfl) dX0_putAnew_38 rfl (eQ fun z38 hp38 p38 => ?_) rfl
  obtain ⟨ez38, F38⟩ := p38
  subst ez38
  have H38 := H7.ext F38
  have ht38 := H38.2.2.1.1
  have hz38 := F38.ex hz7
  have hT38 := H38.2.2.1.2.2
  have hxz : ∀ x ∈ tl (sC s).1.1, ad x ≠ z6 := fun x hx zz => by obtain ⟨_, _, q1, _⟩ := hT.at hx; rw [zz, n6] at q1; cases q1
  have hxt : ∀ x ∈ tl (sC s).1.1, ad x ≠ t := fun x hx => by obtain ⟨_, _, q1, _, _, q4⟩ := hT.at hx; exact cell_ne q1 ht (eO_ne_t (by decide) (by omega))
  have hsubz : ∀ l r, sub (sC s).1.1 k = .branch k l r → hp38 z6 = some (eO kd k v ((ro l).map ad) ((ro r).map ad)) := fun l r e => by
    rw [hsub] at e
    cases e
    exact hz38
  refine v_aload_n (n' := 42) h dX0_putAnew_41 rfl rfl ?_
  refine v_aload (n' := 44) h dX0_putAnew_42 rfl rfl ?_
  cases hpa : pa (sC s).1.1 k none with
  | none =>
    have hro : ro (sC s).1.1 = some k := by
      apply Classical.byContradiction
      intro c
      obtain ⟨p, -, -, p3⟩ := pa_in hs hk c
      rw [p3] at hpa
      cases hpa
    refine vc_callVN (n' := 47) (ci := 1) h ((c_hangT de hp38 t _ (some (ad k)) (some z6) _ _ _ _ _ _ _ _ _ ht38).d hde) rfl ht38 q605 q83 q711 q604 qs15 hdX1_hang ⟨by omega, by decide⟩ ⟨by omega, by omega⟩ (Nat.le_of_ble_eq_true rfl) dX0_putAnew_44 rfl (eV fun hp44 p44 => ?_) rfl
    subst p44
    refine v_vret h hq dX0_putAnew_47 (by omega) (by omega) (ret_v ?_)
    refine ⟨W, A, t, kt, σ, fun y => if y = k then z6 else ad y, H38.tr (Frm.up hWt) ⟨upH_s.trans ?_, hWt, ?_⟩ ⟨rfl, rfl, rfl, rfl, rfl, rfl⟩, hX⟩
    · show some (tO (some z6) _ _ _ _ _ _ _ _ _) = some (tO ((ro (sC s).1.1).map (fun y => if y = k then z6 else ad y)) _ _ _ _ _ _ _ _ _)
      rw [hro]
      show _ = some (tO (some (if k = k then z6 else ad k)) _ _ _ _ _ _ _ _ _)
      rw [if_pos rfl]
      rfl
    · refine HT_swap (T := (sC s).1.1) hkd hk100 hWz none (fun p e => by cases e) hT38 hs hk (fun x hx _ _ => upH_n (hxt x hx)) (fun p _ e => by rw [hpa] at e; cases e) (fun l r e => (upH_n (fun zz => nt zz.symm)).trans (hsubz l r e))
  | some p =>
    have hro : ro (sC s).1.1 ≠ some k := fun zz => by rw [pa_root zz] at hpa; cases hpa
    obtain ⟨p', p1, p2, p3⟩ := pa_in hs hk hro
    obtain rfl : p' = p := by rw [p3] at hpa; cases hpa; rfl
    obtain ⟨l1, r1, q1, q2, q3, q4⟩ := hT38.at p1
    refine vc_callVN (n' := 47) (ci := 1) h ((c_hangE de hp38 t (ad p') _ _ _ l1 r1 (some (ad k)) (some z6) (by omega) q1).d hde) rfl ht38 q605 q83 q711 q604 qs15 hdX1_hang ⟨by omega, by decide⟩ ⟨by omega, by omega⟩ (Nat.le_of_ble_eq_true rfl) dX0_putAnew_44 rfl (eV fun hp44 p44 => ?_) rfl
    subst p44
    refine v_vret h hq dX0_putAnew_47 (by omega) (by omega) (ret_v ?_)
    refine ⟨W, A, t, kt, σ, fun y => if y = k then z6 else ad y, H38.tr (Frm.up q2) ⟨(upH_n (fun zz => hxt p' p1 zz.symm)).trans (ht38.trans ?_), hWt, ?_⟩ ⟨rfl, rfl, rfl, rfl, rfl, rfl⟩, hX⟩
    · show some (tO ((ro (sC s).1.1).map ad) _ _ _ _ _ _ _ _ _) = some (tO ((ro (sC s).1.1).map (fun y => if y = k then z6 else ad y)) _ _ _ _ _ _ _ _ _)
      have : (ro (sC s).1.1).map (fun y => if y = k then z6 else ad y) = (ro (sC s).1.1).map ad := by
        cases hl0 : ro (sC s).1.1 with
        | none => rfl
        | some y => exact congrArg some (if_neg (fun e => hro (by rw [hl0, e])))
      rw [this]
      rfl
    · refine HT_swap (T := (sC s).1.1) hkd hk100 hWz none (fun p e => by cases e) hT38 hs hk (fun x hx _ hpx => upH_n (fun zz => hpx (by rw [hpa]; exact congrArg some (hT38.inj hT38 p1 hx zz.symm)))) (fun p _ e => ?_) (fun l r e => (upH_n (fun zz => hxz p' p1 zz.symm)).trans (hsubz l r e))
      rw [hpa] at e
      cases e
      exact ⟨l1, r1, q1, upH_s⟩
theorem k_put (de : Nat) (hp : AH) (ax : Nat) (s : SS) (n : Int) (hC : CRel de hp ax s) (hi : SInv s n) (hn : n ≤ 64) (kind key v : Int) (hkd : -2147483648 ≤ kind ∧ kind ≤ 2147483647) (hk : -2147483648 ≤ key ∧ key ≤ 2147483647) (hv : -2147483648 ≤ v ∧ v ≤ 2147483647) : CtE de yX0_put cX0_put 5 (some .int) (rmK 64 13 268) [.ref ax, .int (iI kind), .int (iI key), .int (iI v)] hp (rI (fun r hp' => r = (oPut s kind key v).1 ∧ CRel de hp' ax (oPut s kind key v).2)) := by
  have hC2 := hC
  obtain ⟨W, A, t, kt, σ, ad, hH, hX⟩ := hC2
  have hr := x_r hX hi hn
  have hx := hH.1.1
  have hTT := hH.2.2.1
  have ht := hTT.1
  have e1 : σ.1 1 = sSh s := hX.1
  obtain ⟨hs, hz1, hB, hk1, hab, -⟩ := tr_all hi hn
  have cf := c_find de hp W ad _ _ _ hTT.2.2 hs t _ _ _ _ _ _ _ _ _ ht key hk
  unfold oPut
  refine CtE.of (by decide) (EL.c1 rfl (EL.c1 rfl (EL.c1 rfl (EL.c1 rfl (EL.nn EL.n0))))) (fun Γ h hq hnm hde => ?_)
  have far : ¬ ((0 ≤ kind ∧ kind ≤ 4) ∧ (0 ≤ key ∧ key ≤ 99) ∧ (0 ≤ v ∧ v ≤ 999)) → V Γ 0 0 hp 30 [some (.ref ax), some (.int (iI kind)), some (.int (iI key)), some (.int (iI v)), none] [] := by
    intro hb
    refine v_bipush (n' := 32) h dX0_put_30 rfl (by decide) ?_
    refine v_iret h hq dX0_put_32 (by omega) (by omega) (ret_i ?_)
    rw [if_pos hb]; exact ⟨rfl, hC⟩
  have near : ((0 ≤ kind ∧ kind ≤ 4) ∧ (0 ≤ key ∧ key ≤ 99) ∧ (0 ≤ v ∧ v ≤ 999)) → V Γ 0 0 hp 33 [some (.ref ax), some (.int (iI kind)), some (.int (iI key)), some (.int (iI v)), none] [] := by
    intro hb
    rw [if_neg (fun zz => zz hb)] at hq
    obtain ⟨⟨k1, k2⟩, ⟨k3, k4⟩, k5, k6⟩ := hb
    obtain ⟨kn, rfl⟩ : ∃ kn : Nat, key = (kn : Int) := ⟨key.toNat, by omega⟩
    obtain ⟨dn, rfl⟩ : ∃ dn : Nat, kind = (dn : Int) := ⟨kind.toNat, by omega⟩
    have ek : ((kn : Nat) : Int).toNat = kn := Int.toNat_natCast kn
    by_cases c : there s (kn : Int)
    · rw [fnd_some c, ek] at cf
      have c2 : kn ∈ tl (sC s).1.1 := by have := c.2; rw [ek] at this; exact this
      obtain ⟨l1, r1, hcy, -, -, hK⟩ := hTT.2.2.at c2
      refine v_aload_n (n' := 34) h dX0_put_33 rfl rfl ?_
      refine v_get (n' := 37) (ci := 0) h rfl in_X0 0 (by decide) q188 rfl dX0_put_34 rfl (by first | assumption | exact upH_s | exact (upH_n (by assumption)).trans (by assumption) | exact (upH_n (by assumption)).trans upH_s | exact (upH_n (by assumption)).trans ((upH_n (by assumption)).trans (by assumption))) (by rfl) ?_
      refine v_iload_n (n' := 38) h dX0_put_37 rfl rfl ?_
      refine vc_callV (n' := 41) (ci := 1) h ((cf).d hde) rfl (by first | assumption | exact upH_s | exact (upH_n (by assumption)).trans (by assumption) | exact (upH_n (by assumption)).trans upH_s | exact (upH_n (by assumption)).trans ((upH_n (by assumption)).trans (by assumption))) (lw_V q610 q611 q612 q83 q613) hdX1_find ⟨by omega, by decide⟩ ⟨by omega, by omega⟩ (Nat.le_of_ble_eq_true rfl) dX0_put_38 rfl (eQ fun z38 hp38 p38 => ?_) rfl
      obtain ⟨ez38, fz38⟩ := p38
      have ez38 := ez38.symm
      have fz38 := fz38.symm
      subst ez38 fz38
      refine v_astore4Q (n' := 43) h dX0_put_41 rfl rfl ?_
      show V Γ 0 0 hp 43 [some (.ref ax), some (.int (iI dn)), some (.int (iI kn)), some (.int (iI v)), some (.ref (ad kn))] []
      refine v_aload_n (n' := 44) h dX0_put_43 rfl rfl ?_
      refine vc_callV (n' := 47) (ci := 0) h ((c_isShelf de hp ax A t kt σ hx (by omega)).d hde) rfl (by first | assumption | exact upH_s | exact (upH_n (by assumption)).trans (by assumption) | exact (upH_n (by assumption)).trans upH_s | exact (upH_n (by assumption)).trans ((upH_n (by assumption)).trans (by assumption))) (lw_V q684 q686 qs22 q82 q687) hdX0_isShelf ⟨by omega, by decide⟩ ⟨by omega, by omega⟩ (Nat.le_of_ble_eq_true rfl) dX0_put_44 rfl (eI fun z44 hp44 p44 => ?_) rfl
      obtain ⟨ez44, fz44⟩ := p44
      have ez44 := ez44.symm
      have fz44 := fz44.symm
      subst ez44 fz44
      refine v_bif_eq (n' := 50) (tgt := 63) h dX0_put_47 rfl rfl (fun c47 => ?_) (fun c47 => ?_)
      · refine v_bipush (n' := 65) h dX0_put_63 rfl (by decide) ?_
        refine v_iret h hq dX0_put_65 (by omega) (by omega) (ret_i ?_)
        rw [if_pos (Or.inl (by omega))]; exact ⟨rfl, hC⟩
      · refine v_aload (n' := 52) h dX0_put_50 rfl rfl ?_
        refine v_ifnullR (n' := 55) h dX0_put_52 rfl ?_
        refine v_aload (n' := 57) h dX0_put_55 rfl rfl ?_
        refine v_mayBePutAnew (n' := 60) h (by first | assumption | exact upH_s | exact (upH_n (by assumption)).trans (by assumption) | exact (upH_n (by assumption)).trans upH_s | exact (upH_n (by assumption)).trans ((upH_n (by assumption)).trans (by assumption))) (by omega) q692 dX0_put_57 rfl (Nat.le_of_ble_eq_true rfl) ⟨by omega, by omega⟩ (by omega) ?_
        refine v_bif_ne (n' := 63) (tgt := 66) h dX0_put_60 rfl rfl (fun c60 => ?_) (fun c60 => ?_)
        · refine v_aload (n' := 68) h dX0_put_66 rfl rfl ?_
          refine v_ifnullR (n' := 71) h dX0_put_68 rfl ?_
          refine v_aload_n (n' := 72) h dX0_put_71 rfl rfl ?_
          refine v_iload_n (n' := 73) h dX0_put_72 rfl rfl ?_
          refine v_aload (n' := 75) h dX0_put_73 rfl rfl ?_
          refine v_iload_n (n' := 76) h dX0_put_75 rfl rfl ?_
          refine vc_callV (n' := 79) (ci := 0) h ((c_putAnew de hp W ax A t kt σ ad s hH hX hs hz1 kn dn (by omega) c2 v).d hde) rfl (by first | assumption | exact upH_s | exact (upH_n (by assumption)).trans (by assumption) | exact (upH_n (by assumption)).trans upH_s | exact (upH_n (by assumption)).trans ((upH_n (by assumption)).trans (by assumption))) (lw_V q706 q708 qs23 q82 q709) hdX0_putAnew ⟨by omega, by decide⟩ ⟨by omega, by omega⟩ (Nat.le_of_ble_eq_true rfl) dX0_put_76 rfl (eV fun hp76 p76 => ?_) rfl
          refine v_iconst (n' := 80) h dX0_put_79 rfl ?_
          refine v_iret h hq dX0_put_80 (by omega) (by omega) (ret_i ?_)
          rw [if_neg (fun zz => by rcases zz with q | q; exact absurd q (by omega); exact absurd q.2 (show ¬ (sC s).2.1 kn = 4 by omega)), if_pos c]; exact ⟨rfl, p76⟩
        · refine v_bipush (n' := 65) h dX0_put_63 rfl (by decide) ?_
          refine v_iret h hq dX0_put_65 (by omega) (by omega) (ret_i ?_)
          rw [if_pos (Or.inr ⟨c, show (sC s).2.1 kn = 4 by omega⟩)]; exact ⟨rfl, hC⟩
    · rw [fnd_none c] at cf
      have c2 : kn ∉ tl (sC s).1.1 := fun zz => c ⟨by omega, by rw [ek]; exact zz⟩
      refine v_aload_n (n' := 34) h dX0_put_33 rfl rfl ?_
      refine v_get (n' := 37) (ci := 0) h rfl in_X0 0 (by decide) q188 rfl dX0_put_34 rfl (by first | assumption | exact upH_s | exact (upH_n (by assumption)).trans (by assumption) | exact (upH_n (by assumption)).trans upH_s | exact (upH_n (by assumption)).trans ((upH_n (by assumption)).trans (by assumption))) (by rfl) ?_
      refine v_iload_n (n' := 38) h dX0_put_37 rfl rfl ?_
      refine vc_callV (n' := 41) (ci := 1) h ((cf).d hde) rfl (by first | assumption | exact upH_s | exact (upH_n (by assumption)).trans (by assumption) | exact (upH_n (by assumption)).trans upH_s | exact (upH_n (by assumption)).trans ((upH_n (by assumption)).trans (by assumption))) (lw_V q610 q611 q612 q83 q613) hdX1_find ⟨by omega, by decide⟩ ⟨by omega, by omega⟩ (Nat.le_of_ble_eq_true rfl) dX0_put_38 rfl (eQ fun z38 hp38 p38 => ?_) rfl
      obtain ⟨ez38, fz38⟩ := p38
      have ez38 := ez38.symm
      have fz38 := fz38.symm
      subst ez38 fz38
      refine v_astore4Q (n' := 43) h dX0_put_41 rfl rfl ?_
      show V Γ 0 0 hp 43 [some (.ref ax), some (.int (iI dn)), some (.int (iI kn)), some (.int (iI v)), some .null] []
      refine v_aload_n (n' := 44) h dX0_put_43 rfl rfl ?_
      refine vc_callV (n' := 47) (ci := 0) h ((c_isShelf de hp ax A t kt σ hx (by omega)).d hde) rfl (by first | assumption | exact upH_s | exact (upH_n (by assumption)).trans (by assumption) | exact (upH_n (by assumption)).trans upH_s | exact (upH_n (by assumption)).trans ((upH_n (by assumption)).trans (by assumption))) (lw_V q684 q686 qs22 q82 q687) hdX0_isShelf ⟨by omega, by decide⟩ ⟨by omega, by omega⟩ (Nat.le_of_ble_eq_true rfl) dX0_put_44 rfl (eI fun z44 hp44 p44 => ?_) rfl
      obtain ⟨ez44, fz44⟩ := p44
      have ez44 := ez44.symm
      have fz44 := fz44.symm
      subst ez44 fz44
      refine v_bif_eq (n' := 50) (tgt := 63) h dX0_put_47 rfl rfl (fun c47 => ?_) (fun c47 => ?_)
      · refine v_bipush (n' := 65) h dX0_put_63 rfl (by decide) ?_
        refine v_iret h hq dX0_put_65 (by omega) (by omega) (ret_i ?_)
        rw [if_pos (Or.inl (by omega))]; exact ⟨rfl, hC⟩
      · have hsh : sSh s ≠ 0 := by omega
        obtain ⟨hab, hfee⟩ := hab hsh
        have hg : ¬ (sSh s = 0 ∨ (there s (kn : Int) ∧ (sC s).2.1 (kn : Int).toNat = 4)) := fun zz => by
          rcases zz with q | q
          · exact hsh q
          · exact c q.1
        refine v_aloadN (n' := 52) h dX0_put_50 rfl rfl ?_
        refine v_ifnullZ (tgt := 66) h dX0_put_52 rfl ?_
        refine v_aloadN (n' := 68) h dX0_put_66 rfl rfl ?_
        refine v_ifnullZ (tgt := 81) h dX0_put_68 rfl ?_
        refine v_aload_n (n' := 82) h dX0_put_81 rfl rfl ?_
        refine v_get (n' := 85) (ci := 0) h rfl in_X0 0 (by decide) q188 rfl dX0_put_82 rfl (by first | assumption | exact upH_s | exact (upH_n (by assumption)).trans (by assumption) | exact (upH_n (by assumption)).trans upH_s | exact (upH_n (by assumption)).trans ((upH_n (by assumption)).trans (by assumption))) (by rfl) ?_
        refine v_getN (n' := 88) (ci := 1) h rfl in_X1 4 (by decide) q127 rfl dX0_put_85 rfl (by first | assumption | exact upH_s | exact (upH_n (by assumption)).trans (by assumption) | exact (upH_n (by assumption)).trans upH_s | exact (upH_n (by assumption)).trans ((upH_n (by assumption)).trans (by assumption))) (by rfl) ?_
        refine v_bipush (n' := 90) h dX0_put_88 rfl (by decide) ?_
        refine v_icmp_ne (n' := 93) (tgt := 98) h dX0_put_90 rfl rfl (by omega) (by omega) (fun c90 => ?_) (fun c90 => ?_)
        · refine v_aload_n (n' := 99) h dX0_put_98 rfl rfl ?_
          refine v_iload_n (n' := 100) h dX0_put_99 rfl rfl ?_
          refine v_iload_n (n' := 101) h dX0_put_100 rfl rfl ?_
          refine v_iload_n (n' := 102) h dX0_put_101 rfl rfl ?_
          refine vc_callS (n' := 105) h ((c_made de hp dn kn v (by omega)).d hde) (lw_S q710 q413 q82 q414) hdX0_made ⟨by omega, by decide⟩ ⟨by omega, by omega⟩ (Nat.le_of_ble_eq_true rfl) dX0_put_102 rfl (eR fun z102 hp102 p102 => ?_) rfl
          obtain ⟨n102, p102⟩ := p102
          subst p102
          have H102 := hH.ext (hp' := upH hp z102 (eO dn kn v none none)) (Frm.up n102)
          have hx102 := H102.1.1
          refine vc_callV (n' := 108) (ci := 0) h ((c_putNew de _ W ax A t kt σ ad s H102 hX hs (by omega) hB hab hfee kn dn z102 v c2 (by omega) (by omega) upH_s (hH.2.1 _ n102)).d hde) rfl (by first | assumption | exact upH_s | exact (upH_n (by assumption)).trans (by assumption) | exact (upH_n (by assumption)).trans upH_s | exact (upH_n (by assumption)).trans ((upH_n (by assumption)).trans (by assumption))) (lw_V q552 q554 qs11 q82 q555) hdX0_putNew ⟨by omega, by decide⟩ ⟨by omega, by omega⟩ (Nat.le_of_ble_eq_true rfl) dX0_put_105 rfl (eI fun z105 hp105 p105 => ?_) rfl
          obtain ⟨ez105, σ', ad', H105, X105⟩ := p105
          subst ez105
          refine v_iret h hq dX0_put_108 (by omega) (by omega) (ret_i ?_)
          rw [if_neg hg, if_neg c, if_neg (by omega)]; exact ⟨rfl, W, A, t, kt, σ', ad', H105, X105⟩
        · refine v_bipush (n' := 95) h dX0_put_93 rfl (by decide) ?_
          refine v_goto (tgt := 108) h dX0_put_95 rfl ?_
          refine v_iret h hq dX0_put_108 (by omega) (by omega) (ret_i ?_)
          rw [if_neg hg, if_neg c, if_pos (by omega)]; exact ⟨rfl, hC⟩
  refine v_iload_n (n' := 1) h dX0_put_0 rfl rfl ?_
  refine v_iconst (n' := 2) h dX0_put_1 rfl ?_
  refine v_iconst (n' := 3) h dX0_put_2 rfl ?_
  refine vc_callS (n' := 6) h ((c_in de hp kind 0 4 hkd (by omega) (by omega)).d hde) (lw_S q255 q256 q82 q257) hdX0_in ⟨by omega, by decide⟩ ⟨by omega, by omega⟩ (Nat.le_of_ble_eq_true rfl) dX0_put_3 rfl (eI fun z3 hp3 p3 => ?_) rfl
  obtain ⟨ez3, fz3⟩ := p3
  have ez3 := ez3.symm
  have fz3 := fz3.symm
  subst ez3 fz3
  refine v_bif_eq (n' := 9) (tgt := 30) h dX0_put_6 rfl rfl (fun c6 => ?_) (fun c6 => ?_)
  · exact far (by omega)
  · refine v_iload_n (n' := 10) h dX0_put_9 rfl rfl ?_
    refine v_iconst (n' := 11) h dX0_put_10 rfl ?_
    refine v_bipush (n' := 13) h dX0_put_11 rfl (by decide) ?_
    refine vc_callS (n' := 16) h ((c_in de hp key 0 99 hk (by omega) (by omega)).d hde) (lw_S q255 q256 q82 q257) hdX0_in ⟨by omega, by decide⟩ ⟨by omega, by omega⟩ (Nat.le_of_ble_eq_true rfl) dX0_put_13 rfl (eI fun z13 hp13 p13 => ?_) rfl
    obtain ⟨ez13, fz13⟩ := p13
    have ez13 := ez13.symm
    have fz13 := fz13.symm
    subst ez13 fz13
    refine v_bif_eq (n' := 19) (tgt := 30) h dX0_put_16 rfl rfl (fun c16 => ?_) (fun c16 => ?_)
    · exact far (by omega)
    · refine v_iload_n (n' := 20) h dX0_put_19 rfl rfl ?_
      refine v_iconst (n' := 21) h dX0_put_20 rfl ?_
      refine v_sipush (n' := 24) h dX0_put_21 rfl (by decide) ?_
      refine vc_callS (n' := 27) h ((c_in de hp v 0 999 hv (by omega) (by omega)).d hde) (lw_S q255 q256 q82 q257) hdX0_in ⟨by omega, by decide⟩ ⟨by omega, by omega⟩ (Nat.le_of_ble_eq_true rfl) dX0_put_24 rfl (eI fun z24 hp24 p24 => ?_) rfl
      obtain ⟨ez24, fz24⟩ := p24
      have ez24 := ez24.symm
      have fz24 := fz24.symm
      subst ez24 fz24
      refine v_bif_ne (n' := 30) (tgt := 33) h dX0_put_27 rfl rfl (fun c27 => ?_) (fun c27 => ?_)
      · exact near (by omega)
      · exact far (by omega)
theorem TT.val {hp : AH} {W : Nat → Prop} {t : Nat} {ad : Nat → Nat} {K U : Nat → Int} {a b f : Int} {te : Tre} (h : TT hp W t ad K U a b f te) {k : Nat} {l r : Option Nat} {v : Int} (hk : k ∈ tl te.1) (he : hp (ad k) = some (eO (K k).toNat k (U k) l r)) : TT (upH hp (ad k) (eO (K k).toNat k v l r)) W t ad K (fun y => if y = k then v else U y) a b f te := by
  obtain ⟨h1, h2, h3⟩ := h
  obtain ⟨_, _, _, _, _, q4⟩ := h3.at hk
  refine ⟨(upH_n (cell_ne h1 he (fun z => eO_ne_t (by decide) (by omega) z.symm))).trans h1, h2, ?_⟩
  have key : ∀ {T : Tr}, HT hp W ad K U T → (∀ x ∈ tl T, x ∈ tl te.1) → HT (upH hp (ad k) (eO (K k).toNat k v l r)) W ad K (fun y => if y = k then v else U y) T := by
    intro T
    induction T with
    | leaf u => intro _ _; trivial
    | branch x l1 r1 ihl ihr =>
      intro g gm
      obtain ⟨⟨e1, e2⟩, g1, g2⟩ := HT.br.mp g
      refine HT.br.mpr ⟨⟨?_, e2⟩, ihl g1 (fun y hy => gm y (mem_br.mpr (Or.inl hy))), ihr g2 (fun y hy => gm y (mem_br.mpr (Or.inr (Or.inr hy))))⟩
      by_cases c : x = k
      · subst c
        rw [upH_s, if_pos rfl]
        rw [he] at e1
        have e1 := congrArg Prod.snd (Sum.inr.inj (Option.some.inj e1))
        simp only [List.cons.injEq, and_true, true_and] at e1
        show some (Sum.inr _) = some (Sum.inr _)
        rw [e1.1, e1.2]
      · rw [upH_n (fun z => c (h3.inj h3 (gm x (mem_br.mpr (Or.inr (Or.inl rfl)))) hk z)), if_neg c]
        exact e1
  exact key h3 (fun x hx => hx)
