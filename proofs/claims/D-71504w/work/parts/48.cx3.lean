/-! THE CLASS: entry, as, at, dear -/
set_option maxRecDepth 100000
theorem c_keyAt (de : Nat) (hp : AH) (ax : Nat) (s : SS) (n : Int) (hC : CRel de hp ax s) (hi : SInv s n) (hn : n ≤ 64) (m : Nat) (hm : m < tz (sC s).1.1) : CtE de yX0_keyAt cX0_keyAt 4 (some .int) (rmK 2 0 0) [.ref ax, .int (iI m)] hp (rI (fun r hp' => r = (((tl (sC s).1.1).getD m 0 : Nat) : Int) ∧ hp' = hp)) := by
  obtain ⟨W, A, t, kt, σ, ad, hH, hX⟩ := hC
  have hx := hH.1.1
  obtain ⟨hs, hz, -, hk, -⟩ := tr_all hi hn
  have hgr : ∀ i, i < tz (sC s).1.1 → (tl (sC s).1.1).getD i 0 < 100 := by
    intro i h
    rw [← tz_len] at h
    have e : (tl (sC s).1.1).getD i 0 = (tl (sC s).1.1)[i] := by rw [List.getD_eq_getElem?_getD, List.getElem?_eq_getElem h]; rfl
    rw [e]
    exact hk _ (List.getElem_mem h)
  refine CtE.of (by decide) (EL.c1 rfl (EL.c1 rfl (EL.nn (EL.nn EL.n0)))) (fun Γ h hq hnm hde => ?_)
  have loop : ∀ j i : Nat, i + j = m + 1 → V Γ 0 0 hp 4 [some (.ref ax), some (.int (iI m)), some (.int (iI (if i = 0 then -1 else (((tl (sC s).1.1).getD (i - 1) 0 : Nat) : Int)))), some (.int (iI i))] [] := by
    intro j
    induction j with
    | zero =>
      intro i hij
      obtain rfl : i = m + 1 := by omega
      rw [if_neg (by omega)]
      refine v_iload_n (n' := 5) h dX0_keyAt_4 rfl rfl ?_
      refine v_iload_n (n' := 6) h dX0_keyAt_5 rfl rfl ?_
      refine v_icmp_gt (n' := 9) (tgt := 21) h dX0_keyAt_6 rfl rfl (by omega) (by omega) (fun c6 => ?_) (fun c6 => ?_)
      · refine v_iload_n (n' := 22) h dX0_keyAt_21 rfl rfl ?_
        refine v_iret h hq dX0_keyAt_22 (by omega) (by omega) (ret_i ?_)
        exact ⟨rfl, rfl⟩
      · omega
    | succ j ih =>
      intro i hij
      have hr : -2147483648 ≤ (if i = 0 then -1 else (((tl (sC s).1.1).getD (i - 1) 0 : Nat) : Int)) ∧ (if i = 0 then -1 else (((tl (sC s).1.1).getD (i - 1) 0 : Nat) : Int)) ≤ 2147483647 := by
        by_cases c : i = 0
        · rw [if_pos c]; omega
        · rw [if_neg c]; have := hgr (i - 1) (by omega); omega
      have hnx := nxt_get hs (i := i) (by omega)
      generalize (if i = 0 then -1 else (((tl (sC s).1.1).getD (i - 1) 0 : Nat) : Int)) = pv at hr hnx ⊢
      refine v_iload_n (n' := 5) h dX0_keyAt_4 rfl rfl ?_
      refine v_iload_n (n' := 6) h dX0_keyAt_5 rfl rfl ?_
      refine v_icmp_gt (n' := 9) (tgt := 21) h dX0_keyAt_6 rfl rfl (by omega) (by omega) (fun c6 => ?_) (fun c6 => ?_)
      · omega
      · refine v_aload_n (n' := 10) h dX0_keyAt_9 rfl rfl ?_
        refine v_iload_n (n' := 11) h dX0_keyAt_10 rfl rfl ?_
        refine vc_callV (n' := 14) (ci := 0) h ((c_nextTo de hp W ax A t kt σ ad _ _ _ _ _ _ hx hH.2.2.1 hs pv hr).d hde) rfl (by first | assumption | exact upH_s | exact (upH_n (by assumption)).trans (by assumption) | exact (upH_n (by assumption)).trans upH_s | exact (upH_n (by assumption)).trans ((upH_n (by assumption)).trans (by assumption))) (lw_V q676 q678 qs21 q82 q679) hdX0_nextTo ⟨by omega, by decide⟩ ⟨by omega, by omega⟩ (Nat.le_of_ble_eq_true rfl) dX0_keyAt_11 rfl (eI fun z11 hp11 p11 => ?_) rfl
        obtain ⟨ez11, fz11⟩ := p11
        have ez11 := ez11.symm
        have fz11 := fz11.symm
        subst ez11 fz11
        refine v_istore2 (n' := 15) h dX0_keyAt_14 rfl rfl ?_
        refine v_iinc3 (n' := 18) h dX0_keyAt_15 rfl rfl ?_
        refine v_goto (tgt := 4) h dX0_keyAt_18 rfl ?_
        have q := ih (i + 1) (by omega)
        rw [if_neg (by omega)] at q
        rw [hnx]
        exact q
  refine v_iconst (n' := 1) h dX0_keyAt_0 rfl ?_
  refine v_istore2 (n' := 2) h dX0_keyAt_1 rfl rfl ?_
  refine v_iconst (n' := 3) h dX0_keyAt_2 rfl ?_
  refine v_istore3 (n' := 4) h dX0_keyAt_3 rfl rfl ?_
  exact loop (m + 1) 0 (by omega)
theorem k_at (de : Nat) (hp : AH) (ax : Nat) (s : SS) (n : Int) (hC : CRel de hp ax s) (hi : SInv s n) (hn : n ≤ 64) (z : Int) (hz : -2147483648 ≤ z ∧ z ≤ 2147483647) : CtE de yX0_at cX0_at 2 (some .int) (rmK 3 0 0) [.ref ax, .int (iI z)] hp (rI (fun r hp' => r = oAt s z ∧ CRel de hp' ax s)) := by
  have hC2 := hC
  obtain ⟨W, A, t, kt, σ, ad, hH, hX⟩ := hC2
  have hx := hH.1.1
  have ht := hH.2.2.1.1
  obtain ⟨hs, hz1, -⟩ := tr_all hi hn
  unfold oAt
  refine CtE.of (by decide) (EL.c1 rfl (EL.c1 rfl EL.n0)) (fun Γ h hq hnm hde => ?_)
  refine v_iload_n (n' := 1) h dX0_at_0 rfl rfl ?_
  refine v_iconst (n' := 2) h dX0_at_1 rfl ?_
  refine v_aload_n (n' := 3) h dX0_at_2 rfl rfl ?_
  refine v_get (n' := 6) (ci := 0) h rfl in_X0 0 (by decide) q188 rfl dX0_at_3 rfl (by first | assumption | exact upH_s | exact (upH_n (by assumption)).trans (by assumption) | exact (upH_n (by assumption)).trans upH_s | exact (upH_n (by assumption)).trans ((upH_n (by assumption)).trans (by assumption))) (by rfl) ?_
  refine v_getN (n' := 9) (ci := 1) h rfl in_X1 4 (by decide) q127 rfl dX0_at_6 rfl (by first | assumption | exact upH_s | exact (upH_n (by assumption)).trans (by assumption) | exact (upH_n (by assumption)).trans upH_s | exact (upH_n (by assumption)).trans ((upH_n (by assumption)).trans (by assumption))) (by rfl) ?_
  refine v_iconst (n' := 10) h dX0_at_9 rfl ?_
  refine v_isub (n' := 11) h dX0_at_10 rfl ?_
  refine vc_callS (n' := 14) h ((c_in de hp z 0 ((tz (sC s).1.1 : Int) - 1) hz (by omega) (by omega)).d hde) (lw_S q255 q256 q82 q257) hdX0_in ⟨by omega, by decide⟩ ⟨by omega, by omega⟩ (Nat.le_of_ble_eq_true rfl) dX0_at_11 rfl (eI fun z11 hp11 p11 => ?_) rfl
  obtain ⟨ez11, fz11⟩ := p11
  have ez11 := ez11.symm
  have fz11 := fz11.symm
  subst ez11 fz11
  refine v_bif_eq (n' := 17) (tgt := 25) h dX0_at_14 rfl rfl (fun c14 => ?_) (fun c14 => ?_)
  · refine v_bipush (n' := 27) h dX0_at_25 rfl (by decide) ?_
    refine v_iret h hq dX0_at_27 (by omega) (by omega) (ret_i ?_)
    exact ⟨by rw [if_neg (by omega)], hC⟩
  · obtain ⟨m, rfl⟩ : ∃ m : Nat, z = (m : Int) := ⟨z.toNat, by omega⟩
    refine v_aload_n (n' := 18) h dX0_at_17 rfl rfl ?_
    refine v_iload_n (n' := 19) h dX0_at_18 rfl rfl ?_
    refine vc_callV (n' := 22) (ci := 0) h ((c_keyAt de hp ax s n hC hi hn m (by omega)).d hde) rfl (by first | assumption | exact upH_s | exact (upH_n (by assumption)).trans (by assumption) | exact (upH_n (by assumption)).trans upH_s | exact (upH_n (by assumption)).trans ((upH_n (by assumption)).trans (by assumption))) (lw_V q672 q674 qs20 q82 q675) hdX0_keyAt ⟨by omega, by decide⟩ ⟨by omega, by omega⟩ (Nat.le_of_ble_eq_true rfl) dX0_at_19 rfl (eI fun z19 hp19 p19 => ?_) rfl
    obtain ⟨ez19, fz19⟩ := p19
    have ez19 := ez19.symm
    have fz19 := fz19.symm
    subst ez19 fz19
    refine v_goto (tgt := 27) h dX0_at_22 rfl ?_
    refine v_iret h hq dX0_at_27 (by omega) (by omega) (ret_i ?_)
    exact ⟨by rw [if_pos (by omega), Int.toNat_natCast], hC⟩
theorem k_as (de : Nat) (hp : AH) (ax : Nat) (s : SS) (n : Int) (hC : CRel de hp ax s) (hi : SInv s n) (hn : n ≤ 64) (key kind : Int) (hk : -2147483648 ≤ key ∧ key ≤ 2147483647) (hkd : -2147483648 ≤ kind ∧ kind ≤ 2147483647) : CtE de yX0_as cX0_as 4 (some .int) (rmK 8 0 0) [.ref ax, .int (iI key), .int (iI kind)] hp (rI (fun r hp' => r = oAs s key kind ∧ CRel de hp' ax s)) := by
  have hC2 := hC
  obtain ⟨W, A, t, kt, σ, ad, hH, hX⟩ := hC2
  have hx := hH.1.1
  have hTT := hH.2.2.1
  have ht := hTT.1
  obtain ⟨hs, hz1, -⟩ := tr_all hi hn
  have cf := c_find de hp W ad _ _ _ hTT.2.2 hs t _ _ _ _ _ _ _ _ _ ht key hk
  unfold oAs
  refine CtE.of (by decide) (EL.c1 rfl (EL.c1 rfl (EL.c1 rfl (EL.nn EL.n0)))) (fun Γ h hq hnm hde => ?_)
  by_cases c : there s key
  · rw [fnd_some c] at cf
    rw [if_pos c] at hq
    obtain ⟨l1, r1, hcy, -, -, hK⟩ := hTT.2.2.at c.2
    refine v_aload_n (n' := 1) h dX0_as_0 rfl rfl ?_
    refine v_get (n' := 4) (ci := 0) h rfl in_X0 0 (by decide) q188 rfl dX0_as_1 rfl (by first | assumption | exact upH_s | exact (upH_n (by assumption)).trans (by assumption) | exact (upH_n (by assumption)).trans upH_s | exact (upH_n (by assumption)).trans ((upH_n (by assumption)).trans (by assumption))) (by rfl) ?_
    refine v_iload_n (n' := 5) h dX0_as_4 rfl rfl ?_
    refine vc_callV (n' := 8) (ci := 1) h ((cf).d hde) rfl (by first | assumption | exact upH_s | exact (upH_n (by assumption)).trans (by assumption) | exact (upH_n (by assumption)).trans upH_s | exact (upH_n (by assumption)).trans ((upH_n (by assumption)).trans (by assumption))) (lw_V q610 q611 q612 q83 q613) hdX1_find ⟨by omega, by decide⟩ ⟨by omega, by omega⟩ (Nat.le_of_ble_eq_true rfl) dX0_as_5 rfl (eQ fun z5 hp5 p5 => ?_) rfl
    obtain ⟨ez5, fz5⟩ := p5
    have ez5 := ez5.symm
    have fz5 := fz5.symm
    subst ez5 fz5
    refine v_astore3Q (n' := 9) h dX0_as_8 rfl rfl ?_
    show V Γ 0 0 hp 9 [some (.ref ax), some (.int (iI key)), some (.int (iI kind)), some (.ref (ad key.toNat))] []
    refine v_aload_n (n' := 10) h dX0_as_9 rfl rfl ?_
    refine v_ifnonnullR (tgt := 16) h dX0_as_10 rfl ?_
    refine v_iload_n (n' := 17) h dX0_as_16 rfl rfl ?_
    refine v_iconst (n' := 18) h dX0_as_17 rfl ?_
    refine v_iconst (n' := 19) h dX0_as_18 rfl ?_
    refine vc_callS (n' := 22) h ((c_in de hp kind 0 4 hkd (by omega) (by omega)).d hde) (lw_S q255 q256 q82 q257) hdX0_in ⟨by omega, by decide⟩ ⟨by omega, by omega⟩ (Nat.le_of_ble_eq_true rfl) dX0_as_19 rfl (eI fun z19 hp19 p19 => ?_) rfl
    obtain ⟨ez19, fz19⟩ := p19
    have ez19 := ez19.symm
    have fz19 := fz19.symm
    subst ez19 fz19
    refine v_bif_ne (n' := 25) (tgt := 30) h dX0_as_22 rfl rfl (fun c22 => ?_) (fun c22 => ?_)
    · refine v_aload_n (n' := 31) h dX0_as_30 rfl rfl ?_
      refine v_iload_n (n' := 32) h dX0_as_31 rfl rfl ?_
      refine v_isOf (n' := 35) h (by omega) (by first | assumption | exact upH_s | exact (upH_n (by assumption)).trans (by assumption) | exact (upH_n (by assumption)).trans upH_s | exact (upH_n (by assumption)).trans ((upH_n (by assumption)).trans (by assumption))) (by omega) q652 dX0_as_32 rfl (Nat.le_of_ble_eq_true rfl) ⟨by omega, by omega⟩ (by omega) ?_
      refine v_bif_eq (n' := 38) (tgt := 42) h dX0_as_35 rfl rfl (fun c35 => ?_) (fun c35 => ?_)
      · refine v_iconst (n' := 43) h dX0_as_42 rfl ?_
        refine v_iret h hq dX0_as_43 (by omega) (by omega) (ret_i ?_)
        exact ⟨by rw [if_pos (by omega), if_neg (by omega)], hC⟩
      · refine v_iload_n (n' := 39) h dX0_as_38 rfl rfl ?_
        refine v_goto (tgt := 43) h dX0_as_39 rfl ?_
        refine v_iret h hq dX0_as_43 (by omega) (by omega) (ret_i ?_)
        exact ⟨by rw [if_pos (by omega), if_pos (by omega)], hC⟩
    · refine v_bipush (n' := 27) h dX0_as_25 rfl (by decide) ?_
      refine v_goto (tgt := 43) h dX0_as_27 rfl ?_
      refine v_iret h hq dX0_as_43 (by omega) (by omega) (ret_i ?_)
      exact ⟨by rw [if_neg (by omega)], hC⟩
  · rw [fnd_none c] at cf
    rw [if_neg c] at hq
    refine v_aload_n (n' := 1) h dX0_as_0 rfl rfl ?_
    refine v_get (n' := 4) (ci := 0) h rfl in_X0 0 (by decide) q188 rfl dX0_as_1 rfl (by first | assumption | exact upH_s | exact (upH_n (by assumption)).trans (by assumption) | exact (upH_n (by assumption)).trans upH_s | exact (upH_n (by assumption)).trans ((upH_n (by assumption)).trans (by assumption))) (by rfl) ?_
    refine v_iload_n (n' := 5) h dX0_as_4 rfl rfl ?_
    refine vc_callV (n' := 8) (ci := 1) h ((cf).d hde) rfl (by first | assumption | exact upH_s | exact (upH_n (by assumption)).trans (by assumption) | exact (upH_n (by assumption)).trans upH_s | exact (upH_n (by assumption)).trans ((upH_n (by assumption)).trans (by assumption))) (lw_V q610 q611 q612 q83 q613) hdX1_find ⟨by omega, by decide⟩ ⟨by omega, by omega⟩ (Nat.le_of_ble_eq_true rfl) dX0_as_5 rfl (eQ fun z5 hp5 p5 => ?_) rfl
    obtain ⟨ez5, fz5⟩ := p5
    have ez5 := ez5.symm
    have fz5 := fz5.symm
    subst ez5 fz5
    refine v_astore3Q (n' := 9) h dX0_as_8 rfl rfl ?_
    show V Γ 0 0 hp 9 [some (.ref ax), some (.int (iI key)), some (.int (iI kind)), some .null] []
    refine v_aload_nN (n' := 10) h dX0_as_9 rfl rfl ?_
    refine v_ifnonnullZ (n' := 13) h dX0_as_10 rfl ?_
    refine v_bipush (n' := 15) h dX0_as_13 rfl (by decide) ?_
    refine v_iret h hq dX0_as_15 (by omega) (by omega) (ret_i ?_)
    exact ⟨rfl, hC⟩
theorem prt_pa {T : Tr} {k : Nat} : ∀ {d : Int} {o : Option Nat}, d = (match o with | none => -1 | some p => (p : Int)) → prt T k d = (match pa T k o with | none => -1 | some p => (p : Int)) := by
  induction T with
  | leaf u => intro d o h; exact h
  | branch x l r ihl ihr =>
    intro d o h
    rw [prt_br, pa_br]
    split
    · exact h
    · split
      · exact ihl rfl
      · exact ihr rfl
theorem c_above (de : Nat) (hp : AH) (W : Nat → Prop) (ax : Nat) (A : Nat → Nat) (t : Nat) (kt : Option Nat) (σ : MS) (ad : Nat → Nat) (K U : Nat → Int) (a b f : Int) (te : Tre) (hx : hp ax = some (xO A t kt σ)) (hTT : TT hp W t ad K U a b f te) (hs : Srt te.1) (hz : tz te.1 ≤ 40) (k : Nat) (hk : k ∈ tl te.1) : CtE de yX0_above cX0_above 3 (some (.object "CreditShelf$Entry")) (rmK 10 6 132) [.ref ax, .int (iI k)] hp (rQ (fun o hp' => o = (pa te.1 k none).map ad ∧ Frm (Fsh hp) hp hp')) := by
  obtain ⟨ht, -, hT⟩ := hTT
  obtain ⟨_, _, _, _, hk100, _⟩ := hT.at hk
  have hwl := way_len (T := te.1) (k := k)
  obtain ⟨pre, hpre⟩ := way_self hs hk
  have hlen : ((way te.1 k).map ad).length = (way te.1 k).length := List.length_map ..
  have hwl1 : (way te.1 k).length = pre.length + 1 := by rw [hpre]; simp
  have hpa := pa_way hs (k := k) pre.length k none (by rw [hpre, List.getElem?_append_right (Nat.le_refl _)]; simp)
  refine CtE.of (by decide) (EL.c1 rfl (EL.c1 rfl (EL.nn EL.n0))) (fun Γ h hq hnm hde => ?_)
  refine v_aload_n (n' := 1) h dX0_above_0 rfl rfl ?_
  refine v_get (n' := 4) (ci := 0) h rfl in_X0 0 (by decide) q188 rfl dX0_above_1 rfl (by first | assumption | exact upH_s | exact (upH_n (by assumption)).trans (by assumption) | exact (upH_n (by assumption)).trans upH_s | exact (upH_n (by assumption)).trans ((upH_n (by assumption)).trans (by assumption))) (by rfl) ?_
  refine v_iload_n (n' := 5) h dX0_above_4 rfl rfl ?_
  refine vc_callV (n' := 8) (ci := 1) h ((c_wayTo de hp W ad K U te.1 hT (by omega) t _ _ _ _ _ _ _ _ _ ht k hk100).d hde) rfl (by first | assumption | exact upH_s | exact (upH_n (by assumption)).trans (by assumption) | exact (upH_n (by assumption)).trans upH_s | exact (upH_n (by assumption)).trans ((upH_n (by assumption)).trans (by assumption))) (lw_V q635 q565 q566 q83 q567) hdX1_wayTo ⟨by omega, by decide⟩ ⟨by omega, by omega⟩ (Nat.le_of_ble_eq_true rfl) dX0_above_5 rfl (eR fun z5 hp5 p5 => ?_) rfl
  obtain ⟨L5, F5⟩ := p5
  obtain ⟨arr, hl5⟩ := L5.len
  rw [hlen] at hl5
  refine v_astore2 (n' := 9) h dX0_above_8 rfl rfl ?_
  refine v_aload_n (n' := 10) h dX0_above_9 rfl rfl ?_
  refine vc_callV (n' := 13) (ci := 10) h ((c_size de hp5 z5 _ _ arr hl5).d hde) rfl (by first | assumption | exact upH_s | exact (upH_n (by assumption)).trans (by assumption) | exact (upH_n (by assumption)).trans upH_s | exact (upH_n (by assumption)).trans ((upH_n (by assumption)).trans (by assumption))) (lw_V q550 q394 q395 q86 q396) hdJ2_size ⟨by omega, by decide⟩ ⟨by omega, by omega⟩ (Nat.le_of_ble_eq_true rfl) dX0_above_10 rfl (eI fun z10 hp10 p10 => ?_) rfl
  obtain ⟨ez10, fz10⟩ := p10
  have ez10 := ez10.symm
  have fz10 := fz10.symm
  subst ez10 fz10
  refine v_iconst (n' := 14) h dX0_above_13 rfl ?_
  refine v_icmp_ge (n' := 17) (tgt := 21) h dX0_above_14 rfl rfl (by omega) (by omega) (fun c14 => ?_) (fun c14 => ?_)
  · obtain ⟨p, hp1⟩ : ∃ p, (way te.1 k)[pre.length - 1]? = some p := ⟨_, List.getElem?_eq_getElem (by omega)⟩
    have hgp : ((way te.1 k).map ad)[pre.length - 1]? = some (ad p) := by rw [List.getElem?_map, hp1]; rfl
    obtain ⟨lp, rp, hcp, -, -, hKp⟩ := (hT.ex (fun q e => F5.ex)).at (way_mem (List.mem_of_getElem? hp1))
    rw [if_neg (by omega), hp1] at hpa
    have ej : ((way te.1 k).length : Int) - 2 = ((pre.length - 1 : Nat) : Int) := by omega
    refine v_aload_n (n' := 22) h dX0_above_21 rfl rfl ?_
    refine v_aload_n (n' := 23) h dX0_above_22 rfl rfl ?_
    refine vc_callV (n' := 26) (ci := 10) h ((c_size de hp5 z5 _ _ arr hl5).d hde) rfl (by first | assumption | exact upH_s | exact (upH_n (by assumption)).trans (by assumption) | exact (upH_n (by assumption)).trans upH_s | exact (upH_n (by assumption)).trans ((upH_n (by assumption)).trans (by assumption))) (lw_V q550 q394 q395 q86 q396) hdJ2_size ⟨by omega, by decide⟩ ⟨by omega, by omega⟩ (Nat.le_of_ble_eq_true rfl) dX0_above_23 rfl (eI fun z23 hp23 p23 => ?_) rfl
    obtain ⟨ez23, fz23⟩ := p23
    have ez23 := ez23.symm
    have fz23 := fz23.symm
    subst ez23 fz23
    refine v_iconst (n' := 27) h dX0_above_26 rfl ?_
    refine v_isub (n' := 28) h dX0_above_27 rfl ?_
    rw [ej]
    refine vc_callV (n' := 31) (ci := 10) h ((c_get de hp5 (Fsh hp) z5 _ _ _ L5 hgp (by omega)).d hde) rfl (by first | assumption | exact upH_s | exact (upH_n (by assumption)).trans (by assumption) | exact (upH_n (by assumption)).trans upH_s | exact (upH_n (by assumption)).trans ((upH_n (by assumption)).trans (by assumption))) (lw_V q551 q398 q399 q86 q400) hdJ2_get ⟨by omega, by decide⟩ ⟨by omega, by omega⟩ (Nat.le_of_ble_eq_true rfl) dX0_above_28 rfl (eR fun z28 hp28 p28 => ?_) rfl
    obtain ⟨ez28, fz28⟩ := p28
    have ez28 := ez28.symm
    have fz28 := fz28.symm
    subst ez28 fz28
    refine v_castE (n' := 34) h q474 dX0_above_31 rfl (by first | assumption | exact upH_s | exact (upH_n (by assumption)).trans (by assumption) | exact (upH_n (by assumption)).trans upH_s | exact (upH_n (by assumption)).trans ((upH_n (by assumption)).trans (by assumption))) (by omega) ?_
    refine v_aret h hq dX0_above_34 (Or.inl ⟨_, rfl⟩) (Or.inr ⟨_, rfl⟩) (by omega) (by omega) (ret_qs ?_)
    exact ⟨by rw [hpa]; rfl, F5⟩
  · refine v_null (n' := 18) h dX0_above_17 rfl ?_
    refine v_goto (tgt := 34) h dX0_above_18 rfl ?_
    refine v_aret h hq dX0_above_34 (Or.inl ⟨_, rfl⟩) (Or.inl rfl) (by omega) (by omega) (ret_qn ?_)
    exact ⟨by rw [hpa, if_pos (by omega)]; rfl, F5⟩
theorem c_entryTold (de : Nat) (hp : AH) (ax : Nat) (s : SS) (n : Int) (hC : CRel de hp ax s) (hi : SInv s n) (hn : n ≤ 64) (W : Nat → Prop) (A : Nat → Nat) (t : Nat) (kt : Option Nat) (σ : MS) (ad : Nat → Nat) (hH : CH de hp W ax A t kt σ ad s) (k : Nat) (hk : k ∈ tl (sC s).1.1) (what : Int) (hw : 0 ≤ what ∧ what ≤ 7) : CtE de yX0_entryTold cX0_entryTold 3 (some .int) (rmK 51 6 132) [.ref ax, .ref (ad k), .int (iI what)] hp (rI (fun r hp' => r = tellE (sC s) k what ∧ Frm (Fsh hp) hp hp')) := by
  have hx := hH.1.1
  have hTT := hH.2.2.1
  obtain ⟨ht, -, hT⟩ := hTT
  obtain ⟨hs, hz, hB, hk1, -⟩ := tr_all hi hn
  obtain ⟨sl, sr, hsub⟩ := sub_root hs hk
  have hS := hT.sub k
  have hzs : tz (sub (sC s).1.1 k) ≤ tz (sC s).1.1 := sub_len
  have hroS : (ro (sub (sC s).1.1 k)).map ad = some (ad k) := by rw [hsub]; rfl
  have hS2 := hS
  rw [hsub] at hS2
  obtain ⟨⟨he, -, hk100, hK⟩, hl, hr⟩ := HT.br.mp hS2
  have hwl := way_len (T := (sC s).1.1) (k := k)
  have hlen : ((way (sC s).1.1 k).map ad).length = (way (sC s).1.1 k).length := List.length_map ..
  have hw1 : 1 ≤ (way (sC s).1.1 k).length := by obtain ⟨p, hp1⟩ := way_self hs hk; rw [hp1]; simp
  have el : lch (sC s).1.1 k = rk sl := by unfold lch; rw [hsub]
  have er : rch (sC s).1.1 k = rk sr := by unfold rch; rw [hsub]
  have c72 := c_sizeOf de hp W ad _ _ _ hS 40 (by omega) (by omega)
  rw [hroS] at c72
  unfold tellE
  refine CtE.of (by decide) (EL.c1 rfl (EL.c1 rfl (EL.c1 rfl EL.n0))) (fun Γ h hq hnm hde => ?_)
  refine v_iload_n (n' := 1) h dX0_entryTold_0 rfl rfl ?_
  refine v_table7 (t0 := 44) (t1 := 49) (t2 := 54) (t3 := 71) (t4 := 76) (t5 := 85) (t6 := 94) (td := 107) h dX0_entryTold_1 (by omega) rfl rfl rfl rfl rfl rfl rfl rfl rfl (fun s1 => ?_) (fun s1 => ?_) (fun s1 => ?_) (fun s1 => ?_) (fun s1 => ?_) (fun s1 => ?_) (fun s1 => ?_) (fun s1 => ?_)
  · refine v_aload_n (n' := 45) h dX0_entryTold_44 rfl rfl ?_
    refine v_kind (n' := 48) h (by first | assumption | exact upH_s | exact (upH_n (by assumption)).trans (by assumption) | exact (upH_n (by assumption)).trans upH_s | exact (upH_n (by assumption)).trans ((upH_n (by assumption)).trans (by assumption))) (by omega) q618 dX0_entryTold_45 rfl (Nat.le_of_ble_eq_true rfl) ⟨by omega, by omega⟩ (by omega) ?_
    refine v_iret h hq dX0_entryTold_48 (by omega) (by omega) (ret_i ?_)
    exact ⟨by rw [if_pos s1]; omega, Frm.rf⟩
  · refine v_aload_n (n' := 50) h dX0_entryTold_49 rfl rfl ?_
    refine v_eval (n' := 53) h q427 dX0_entryTold_50 rfl (by first | assumption | exact upH_s | exact (upH_n (by assumption)).trans (by assumption) | exact (upH_n (by assumption)).trans upH_s | exact (upH_n (by assumption)).trans ((upH_n (by assumption)).trans (by assumption))) (by omega) ?_
    refine v_iret h hq dX0_entryTold_53 (by omega) (by omega) (ret_i ?_)
    exact ⟨by rw [if_neg (by omega), if_pos s1], Frm.rf⟩
  · refine v_aload_n (n' := 55) h dX0_entryTold_54 rfl rfl ?_
    refine v_get (n' := 58) (ci := 0) h rfl in_X0 0 (by decide) q188 rfl dX0_entryTold_55 rfl (by first | assumption | exact upH_s | exact (upH_n (by assumption)).trans (by assumption) | exact (upH_n (by assumption)).trans upH_s | exact (upH_n (by assumption)).trans ((upH_n (by assumption)).trans (by assumption))) (by rfl) ?_
    refine v_aload_n (n' := 59) h dX0_entryTold_58 rfl rfl ?_
    refine v_ekey (n' := 62) h q425 dX0_entryTold_59 rfl (by first | assumption | exact upH_s | exact (upH_n (by assumption)).trans (by assumption) | exact (upH_n (by assumption)).trans upH_s | exact (upH_n (by assumption)).trans ((upH_n (by assumption)).trans (by assumption))) (by omega) ?_
    refine vc_callV (n' := 65) (ci := 1) h ((c_wayTo de hp W ad _ _ _ hT (by omega) t _ _ _ _ _ _ _ _ _ ht k hk100).d hde) rfl (by first | assumption | exact upH_s | exact (upH_n (by assumption)).trans (by assumption) | exact (upH_n (by assumption)).trans upH_s | exact (upH_n (by assumption)).trans ((upH_n (by assumption)).trans (by assumption))) (lw_V q635 q565 q566 q83 q567) hdX1_wayTo ⟨by omega, by decide⟩ ⟨by omega, by omega⟩ (Nat.le_of_ble_eq_true rfl) dX0_entryTold_62 rfl (eR fun z62 hp62 p62 => ?_) rfl
    obtain ⟨L62, F62⟩ := p62
    obtain ⟨arr, hl62⟩ := L62.len
    rw [hlen] at hl62
    refine vc_callV (n' := 68) (ci := 10) h ((c_size de hp62 z62 _ _ arr hl62).d hde) rfl (by first | assumption | exact upH_s | exact (upH_n (by assumption)).trans (by assumption) | exact (upH_n (by assumption)).trans upH_s | exact (upH_n (by assumption)).trans ((upH_n (by assumption)).trans (by assumption))) (lw_V q550 q394 q395 q86 q396) hdJ2_size ⟨by omega, by decide⟩ ⟨by omega, by omega⟩ (Nat.le_of_ble_eq_true rfl) dX0_entryTold_65 rfl (eI fun z65 hp65 p65 => ?_) rfl
    obtain ⟨ez65, fz65⟩ := p65
    have ez65 := ez65.symm
    have fz65 := fz65.symm
    subst ez65 fz65
    refine v_iconst (n' := 69) h dX0_entryTold_68 rfl ?_
    refine v_isub (n' := 70) h dX0_entryTold_69 rfl ?_
    refine v_iret h hq dX0_entryTold_70 (by omega) (by omega) (ret_i ?_)
    exact ⟨by rw [if_neg (by omega), if_neg (by omega), if_pos s1]; unfold dep; omega, F62⟩
  · refine v_aload_n (n' := 72) h dX0_entryTold_71 rfl rfl ?_
    refine vc_callS (n' := 75) h ((c72).d hde) (lw_S q591 q589 q82 q590) hdX0_sizeOf ⟨by omega, by decide⟩ ⟨by omega, by omega⟩ (Nat.le_of_ble_eq_true rfl) dX0_entryTold_72 rfl (eI fun z72 hp72 p72 => ?_) rfl
    obtain ⟨ez72, fz72⟩ := p72
    have ez72 := ez72.symm
    have fz72 := fz72.symm
    subst ez72 fz72
    refine v_iret h hq dX0_entryTold_75 (by omega) (by omega) (ret_i ?_)
    exact ⟨by rw [if_neg (by omega), if_neg (by omega), if_neg (by omega), if_pos s1], Frm.rf⟩
  · refine v_aload_n (n' := 77) h dX0_entryTold_76 rfl rfl ?_
    refine v_aload_n (n' := 78) h dX0_entryTold_77 rfl rfl ?_
    refine v_eleft (n' := 81) h q429 dX0_entryTold_78 rfl (by first | assumption | exact upH_s | exact (upH_n (by assumption)).trans (by assumption) | exact (upH_n (by assumption)).trans upH_s | exact (upH_n (by assumption)).trans ((upH_n (by assumption)).trans (by assumption))) (by omega) ?_
    refine vc_callV (n' := 84) (ci := 0) h ((c_keyT de hp W ad _ _ ax sl hl).d hde) rfl (by first | assumption | exact upH_s | exact (upH_n (by assumption)).trans (by assumption) | exact (upH_n (by assumption)).trans upH_s | exact (upH_n (by assumption)).trans ((upH_n (by assumption)).trans (by assumption))) (lw_V q636 q638 qs17 q82 q639) hdX0_keyOf ⟨by omega, by decide⟩ ⟨by omega, by omega⟩ (Nat.le_of_ble_eq_true rfl) dX0_entryTold_81 rfl (eI fun z81 hp81 p81 => ?_) rfl
    obtain ⟨ez81, fz81⟩ := p81
    have ez81 := ez81.symm
    have fz81 := fz81.symm
    subst ez81 fz81
    refine v_iret h hq dX0_entryTold_84 (by omega) (by omega) (ret_i ?_)
    exact ⟨by rw [if_neg (by omega), if_neg (by omega), if_neg (by omega), if_neg (by omega), if_pos s1, el], Frm.rf⟩
  · refine v_aload_n (n' := 86) h dX0_entryTold_85 rfl rfl ?_
    refine v_aload_n (n' := 87) h dX0_entryTold_86 rfl rfl ?_
    refine v_eright (n' := 90) h q431 dX0_entryTold_87 rfl (by first | assumption | exact upH_s | exact (upH_n (by assumption)).trans (by assumption) | exact (upH_n (by assumption)).trans upH_s | exact (upH_n (by assumption)).trans ((upH_n (by assumption)).trans (by assumption))) (by omega) ?_
    refine vc_callV (n' := 93) (ci := 0) h ((c_keyT de hp W ad _ _ ax sr hr).d hde) rfl (by first | assumption | exact upH_s | exact (upH_n (by assumption)).trans (by assumption) | exact (upH_n (by assumption)).trans upH_s | exact (upH_n (by assumption)).trans ((upH_n (by assumption)).trans (by assumption))) (lw_V q636 q638 qs17 q82 q639) hdX0_keyOf ⟨by omega, by decide⟩ ⟨by omega, by omega⟩ (Nat.le_of_ble_eq_true rfl) dX0_entryTold_90 rfl (eI fun z90 hp90 p90 => ?_) rfl
    obtain ⟨ez90, fz90⟩ := p90
    have ez90 := ez90.symm
    have fz90 := fz90.symm
    subst ez90 fz90
    refine v_iret h hq dX0_entryTold_93 (by omega) (by omega) (ret_i ?_)
    exact ⟨by rw [if_neg (by omega), if_neg (by omega), if_neg (by omega), if_neg (by omega), if_neg (by omega), if_pos s1, er], Frm.rf⟩
  · refine v_aload_n (n' := 95) h dX0_entryTold_94 rfl rfl ?_
    refine v_aload_n (n' := 96) h dX0_entryTold_95 rfl rfl ?_
    refine v_aload_n (n' := 97) h dX0_entryTold_96 rfl rfl ?_
    refine v_ekey (n' := 100) h q425 dX0_entryTold_97 rfl (by first | assumption | exact upH_s | exact (upH_n (by assumption)).trans (by assumption) | exact (upH_n (by assumption)).trans upH_s | exact (upH_n (by assumption)).trans ((upH_n (by assumption)).trans (by assumption))) (by omega) ?_
    refine vc_callV (n' := 103) (ci := 0) h ((c_above de hp W ax A t kt σ ad _ _ _ _ _ _ hx hH.2.2.1 hs hz k hk).d hde) rfl (by first | assumption | exact upH_s | exact (upH_n (by assumption)).trans (by assumption) | exact (upH_n (by assumption)).trans upH_s | exact (upH_n (by assumption)).trans ((upH_n (by assumption)).trans (by assumption))) (lw_V q640 q642 qs18 q82 q643) hdX0_above ⟨by omega, by decide⟩ ⟨by omega, by omega⟩ (Nat.le_of_ble_eq_true rfl) dX0_entryTold_100 rfl (eQ fun z100 hp100 p100 => ?_) rfl
    obtain ⟨ez100, F100⟩ := p100
    subst ez100
    have c103 : CtE de yX0_keyOf cX0_keyOf 2 (some .int) (rmK 1 0 0) [.ref ax, va_rf ((pa (sC s).1.1 k none).map ad)] hp100 (rI (fun z hp' => z = prt (sC s).1.1 k (-1) ∧ hp' = hp100)) := by
      rw [prt_pa (o := none) rfl]
      cases hpa : pa (sC s).1.1 k none with
      | none => exact c_keyN de hp100 ax
      | some p =>
        have hpT : p ∈ tl (sC s).1.1 := by
          by_cases cr : ro (sC s).1.1 = some k
          · rw [pa_root cr] at hpa; cases hpa
          · obtain ⟨p', q1, -, q3⟩ := pa_in hs hk cr
            rw [q3] at hpa
            cases hpa
            exact q1
        obtain ⟨l1, r1, q1, -, -, q4⟩ := hT.at hpT
        exact c_keyR de hp100 ax (ad p) _ _ _ _ _ (F100.ex q1) (by omega)
    have hx100 := F100.ex hx
    refine vc_callV (n' := 106) (ci := 0) h ((c103).d hde) rfl (by first | assumption | exact upH_s | exact (upH_n (by assumption)).trans (by assumption) | exact (upH_n (by assumption)).trans upH_s | exact (upH_n (by assumption)).trans ((upH_n (by assumption)).trans (by assumption))) (lw_V q636 q638 qs17 q82 q639) hdX0_keyOf ⟨by omega, by decide⟩ ⟨by omega, by omega⟩ (Nat.le_of_ble_eq_true rfl) dX0_entryTold_103 rfl (eI fun z103 hp103 p103 => ?_) rfl
    obtain ⟨ez103, fz103⟩ := p103
    have ez103 := ez103.symm
    have fz103 := fz103.symm
    subst ez103 fz103
    refine v_iret h hq dX0_entryTold_106 (by omega) (by omega) (ret_i ?_)
    exact ⟨by rw [if_neg (by omega), if_neg (by omega), if_neg (by omega), if_neg (by omega), if_neg (by omega), if_neg (by omega), if_pos s1], F100⟩
  · refine v_aload_n (n' := 108) h dX0_entryTold_107 rfl rfl ?_
    refine v_aload_n (n' := 109) h dX0_entryTold_108 rfl rfl ?_
    refine v_get (n' := 112) (ci := 0) h rfl in_X0 0 (by decide) q188 rfl dX0_entryTold_109 rfl (by first | assumption | exact upH_s | exact (upH_n (by assumption)).trans (by assumption) | exact (upH_n (by assumption)).trans upH_s | exact (upH_n (by assumption)).trans ((upH_n (by assumption)).trans (by assumption))) (by rfl) ?_
    refine v_getN (n' := 115) (ci := 1) h rfl in_X1 0 (by decide) q119 rfl dX0_entryTold_112 rfl (by first | assumption | exact upH_s | exact (upH_n (by assumption)).trans (by assumption) | exact (upH_n (by assumption)).trans upH_s | exact (upH_n (by assumption)).trans ((upH_n (by assumption)).trans (by assumption))) (by rfl) ?_
    refine v_aload_n (n' := 116) h dX0_entryTold_115 rfl rfl ?_
    refine v_ekey (n' := 119) h q425 dX0_entryTold_116 rfl (by first | assumption | exact upH_s | exact (upH_n (by assumption)).trans (by assumption) | exact (upH_n (by assumption)).trans upH_s | exact (upH_n (by assumption)).trans ((upH_n (by assumption)).trans (by assumption))) (by omega) ?_
    refine vc_callV (n' := 122) (ci := 0) h ((c_lessThan de hp W ad _ _ ax _ hx k hk100 _ hT 40 (by omega) (by omega)).d hde) rfl (by first | assumption | exact upH_s | exact (upH_n (by assumption)).trans (by assumption) | exact (upH_n (by assumption)).trans upH_s | exact (upH_n (by assumption)).trans ((upH_n (by assumption)).trans (by assumption))) (lw_V q644 q646 qs19 q82 q647) hdX0_lessThan ⟨by omega, by decide⟩ ⟨by omega, by omega⟩ (Nat.le_of_ble_eq_true rfl) dX0_entryTold_119 rfl (eI fun z119 hp119 p119 => ?_) rfl
    obtain ⟨ez119, fz119⟩ := p119
    have ez119 := ez119.symm
    have fz119 := fz119.symm
    subst ez119 fz119
    refine v_iret h hq dX0_entryTold_122 (by omega) (by omega) (ret_i ?_)
    exact ⟨by rw [if_neg (by omega), if_neg (by omega), if_neg (by omega), if_neg (by omega), if_neg (by omega), if_neg (by omega), if_neg (by omega)], Frm.rf⟩
theorem k_entry (de : Nat) (hp : AH) (ax : Nat) (s : SS) (n : Int) (hC : CRel de hp ax s) (hi : SInv s n) (hn : n ≤ 64) (key what : Int) (hk : -2147483648 ≤ key ∧ key ≤ 2147483647) (hw : -2147483648 ≤ what ∧ what ≤ 2147483647) : CtE de yX0_entry cX0_entry 4 (some .int) (rmK 52 6 132) [.ref ax, .int (iI key), .int (iI what)] hp (rI (fun r hp' => r = oEntry s key what ∧ CRel de hp' ax s)) := by
  have hC2 := hC
  obtain ⟨W, A, t, kt, σ, ad, hH, hX⟩ := hC2
  have hx := hH.1.1
  have hTT := hH.2.2.1
  have ht := hTT.1
  obtain ⟨hs, hz1, -⟩ := tr_all hi hn
  have cf := c_find de hp W ad _ _ _ hTT.2.2 hs t _ _ _ _ _ _ _ _ _ ht key hk
  unfold oEntry
  refine CtE.of (by decide) (EL.c1 rfl (EL.c1 rfl (EL.c1 rfl (EL.nn EL.n0)))) (fun Γ h hq hnm hde => ?_)
  by_cases c : there s key
  · rw [fnd_some c] at cf
    rw [if_pos c] at hq
    obtain ⟨l1, r1, hcy, -, -, hK⟩ := hTT.2.2.at c.2
    refine v_aload_n (n' := 1) h dX0_entry_0 rfl rfl ?_
    refine v_get (n' := 4) (ci := 0) h rfl in_X0 0 (by decide) q188 rfl dX0_entry_1 rfl (by first | assumption | exact upH_s | exact (upH_n (by assumption)).trans (by assumption) | exact (upH_n (by assumption)).trans upH_s | exact (upH_n (by assumption)).trans ((upH_n (by assumption)).trans (by assumption))) (by rfl) ?_
    refine v_iload_n (n' := 5) h dX0_entry_4 rfl rfl ?_
    refine vc_callV (n' := 8) (ci := 1) h ((cf).d hde) rfl (by first | assumption | exact upH_s | exact (upH_n (by assumption)).trans (by assumption) | exact (upH_n (by assumption)).trans upH_s | exact (upH_n (by assumption)).trans ((upH_n (by assumption)).trans (by assumption))) (lw_V q610 q611 q612 q83 q613) hdX1_find ⟨by omega, by decide⟩ ⟨by omega, by omega⟩ (Nat.le_of_ble_eq_true rfl) dX0_entry_5 rfl (eQ fun z5 hp5 p5 => ?_) rfl
    obtain ⟨ez5, fz5⟩ := p5
    have ez5 := ez5.symm
    have fz5 := fz5.symm
    subst ez5 fz5
    refine v_astore3Q (n' := 9) h dX0_entry_8 rfl rfl ?_
    show V Γ 0 0 hp 9 [some (.ref ax), some (.int (iI key)), some (.int (iI what)), some (.ref (ad key.toNat))] []
    refine v_aload_n (n' := 10) h dX0_entry_9 rfl rfl ?_
    refine v_ifnonnullR (tgt := 18) h dX0_entry_10 rfl ?_
    refine v_iload_n (n' := 19) h dX0_entry_18 rfl rfl ?_
    refine v_iconst (n' := 20) h dX0_entry_19 rfl ?_
    refine v_bipush (n' := 22) h dX0_entry_20 rfl (by decide) ?_
    refine vc_callS (n' := 25) h ((c_in de hp what 0 7 hw (by omega) (by omega)).d hde) (lw_S q255 q256 q82 q257) hdX0_in ⟨by omega, by decide⟩ ⟨by omega, by omega⟩ (Nat.le_of_ble_eq_true rfl) dX0_entry_22 rfl (eI fun z22 hp22 p22 => ?_) rfl
    obtain ⟨ez22, fz22⟩ := p22
    have ez22 := ez22.symm
    have fz22 := fz22.symm
    subst ez22 fz22
    refine v_bif_eq (n' := 28) (tgt := 37) h dX0_entry_25 rfl rfl (fun c25 => ?_) (fun c25 => ?_)
    · refine v_bipush (n' := 39) h dX0_entry_37 rfl (by decide) ?_
      refine v_iret h hq dX0_entry_39 (by omega) (by omega) (ret_i ?_)
      exact ⟨by rw [if_neg (by omega)], hC⟩
    · refine v_aload_n (n' := 29) h dX0_entry_28 rfl rfl ?_
      refine v_aload_n (n' := 30) h dX0_entry_29 rfl rfl ?_
      refine v_iload_n (n' := 31) h dX0_entry_30 rfl rfl ?_
      refine vc_callV (n' := 34) (ci := 0) h ((c_entryTold de hp ax s n hC hi hn W A t kt σ ad hH key.toNat c.2 what (by omega)).d hde) rfl (by first | assumption | exact upH_s | exact (upH_n (by assumption)).trans (by assumption) | exact (upH_n (by assumption)).trans upH_s | exact (upH_n (by assumption)).trans ((upH_n (by assumption)).trans (by assumption))) (lw_V q614 q616 qs16 q82 q617) hdX0_entryTold ⟨by omega, by decide⟩ ⟨by omega, by omega⟩ (Nat.le_of_ble_eq_true rfl) dX0_entry_31 rfl (eI fun z31 hp31 p31 => ?_) rfl
      obtain ⟨ez31, F31⟩ := p31
      subst ez31
      refine v_goto (tgt := 39) h dX0_entry_34 rfl ?_
      refine v_iret h hq dX0_entry_39 (by omega) (by omega) (ret_i ?_)
      exact ⟨by rw [if_pos (by omega)], W, A, t, kt, σ, ad, hH.ext F31, hX⟩
  · rw [fnd_none c] at cf
    rw [if_neg c] at hq
    refine v_aload_n (n' := 1) h dX0_entry_0 rfl rfl ?_
    refine v_get (n' := 4) (ci := 0) h rfl in_X0 0 (by decide) q188 rfl dX0_entry_1 rfl (by first | assumption | exact upH_s | exact (upH_n (by assumption)).trans (by assumption) | exact (upH_n (by assumption)).trans upH_s | exact (upH_n (by assumption)).trans ((upH_n (by assumption)).trans (by assumption))) (by rfl) ?_
    refine v_iload_n (n' := 5) h dX0_entry_4 rfl rfl ?_
    refine vc_callV (n' := 8) (ci := 1) h ((cf).d hde) rfl (by first | assumption | exact upH_s | exact (upH_n (by assumption)).trans (by assumption) | exact (upH_n (by assumption)).trans upH_s | exact (upH_n (by assumption)).trans ((upH_n (by assumption)).trans (by assumption))) (lw_V q610 q611 q612 q83 q613) hdX1_find ⟨by omega, by decide⟩ ⟨by omega, by omega⟩ (Nat.le_of_ble_eq_true rfl) dX0_entry_5 rfl (eQ fun z5 hp5 p5 => ?_) rfl
    obtain ⟨ez5, fz5⟩ := p5
    have ez5 := ez5.symm
    have fz5 := fz5.symm
    subst ez5 fz5
    refine v_astore3Q (n' := 9) h dX0_entry_8 rfl rfl ?_
    show V Γ 0 0 hp 9 [some (.ref ax), some (.int (iI key)), some (.int (iI what)), some .null] []
    refine v_aload_nN (n' := 10) h dX0_entry_9 rfl rfl ?_
    refine v_ifnonnullZ (n' := 13) h dX0_entry_10 rfl ?_
    refine v_bipush (n' := 15) h dX0_entry_13 rfl (by decide) ?_
    refine v_goto (tgt := 39) h dX0_entry_15 rfl ?_
    refine v_iret h hq dX0_entry_39 (by omega) (by omega) (ret_i ?_)
    exact ⟨rfl, hC⟩
