/-! THE CLASS: digest -/
set_option maxRecDepth 100000
theorem c_mixed (de : Nat) (hp : AH) (a b : Int) : CtE de yX0_mixed cX0_mixed 4 (some .long) (rmK 1 0 0) [.long (lI a), .long (lI b)] hp (rJ (fun z hp' => z = sayF a b ∧ hp' = hp)) := by
  refine CtE.of (by decide) (EL.c2 rfl (EL.c2 rfl EL.n0)) (fun Γ h hq hnm hde => ?_)
  refine v_ldc2 (n' := 3) (z := 31) h dX0_mixed_0 rfl q925 (by decide) ?_
  refine v_lload_n (n' := 4) h dX0_mixed_3 rfl rfl ?_
  refine v_lmul (n' := 5) h dX0_mixed_4 rfl ?_
  refine v_lload_n (n' := 6) h dX0_mixed_5 rfl rfl ?_
  refine v_ladd (n' := 7) h dX0_mixed_6 rfl ?_
  refine v_lret h hq dX0_mixed_7 (by omega) (by omega) (ret_j ?_)
  exact ⟨rfl, rfl⟩
theorem nxt_end {T : Tr} (hs : Srt T) : nxt T (if tz T = 0 then -1 else (((tl T).getD (tz T - 1) 0 : Nat) : Int)) = -1 := by
  have hs : (tl T).Pairwise (· < ·) := hs
  rw [← tz_len]
  unfold nxt
  revert hs
  generalize tl T = L
  intro hs
  have key : L.find? (fun x : Nat => decide ((if L.length = 0 then (-1 : Int) else ((L.getD (L.length - 1) 0 : Nat) : Int)) < (x : Int))) = none := by
    rw [List.find?_eq_none]
    intro x hx
    obtain ⟨j, hj, rfl⟩ := List.getElem_of_mem hx
    rw [if_neg (by omega)]
    have e2 : L.getD (L.length - 1) 0 = L[L.length - 1] := by rw [List.getD_eq_getElem?_getD, List.getElem?_eq_getElem (by omega)]; rfl
    rw [e2]
    simp
    by_cases c : j = L.length - 1
    · subst c; exact Nat.le_refl _
    · exact Nat.le_of_lt (List.pairwise_iff_getElem.mp hs j (L.length - 1) hj (by omega) (by omega))
  rw [key]
theorem c_mixedEntries (de : Nat) (hp : AH) (W : Nat → Prop) (ax : Nat) (A : Nat → Nat) (t : Nat) (kt : Option Nat) (σ : MS) (ad : Nat → Nat) (s : SS) (n : Int) (hH : CH de hp W ax A t kt σ ad s) (hX : XS σ s) (hi : SInv s n) (hn : n ≤ 64) (h0 : Int) : CtE de yX0_mixedEntries cX0_mixedEntries 7 (some .long) (rmK 52 1680 36960) [.ref ax, .long (lI h0)] hp (rJ (fun z hp' => z = ((tl (sC s).1.1).flatMap (dgE (sC s))).foldl sayF h0 ∧ CH de hp' W ax A t kt σ ad s)) := by
  obtain ⟨hs, hz, hB, hk1, -⟩ := tr_all hi hn
  have hSh : ShOk (sC s) (4000 * n) := hi.2.2.2.2.1
  have hlen := tz_len (sC s).1.1
  refine CtE.of (by decide) (EL.c1 rfl (EL.c2 rfl (EL.nn (EL.nn (EL.nn (EL.nn EL.n0)))))) (fun Γ h hq hnm hde => ?_)
  have outer : ∀ (m i : Nat) (hp1 : AH) (v6 : Option Value) (kz : Int), i + m = tz (sC s).1.1 → CH de hp1 W ax A t kt σ ad s → kz = (if i < tz (sC s).1.1 then (((tl (sC s).1.1).getD i 0 : Nat) : Int) else -1) → V Γ (42 * i) (924 * i) hp1 9 [some (.ref ax), some (.long (lI h0)), none, some (.long (lI ((((tl (sC s).1.1).take i).flatMap (dgE (sC s))).foldl sayF h0))), none, some (.int (iI kz)), v6] [] := by
    intro m
    induction m with
    | zero =>
      intro i hp1 v6 kz hm H1 ek
      obtain rfl : i = tz (sC s).1.1 := by omega
      rw [if_neg (by omega)] at ek
      subst ek
      refine v_iload (n' := 11) h dX0_mixedEntries_9 rfl rfl ?_
      refine v_iconst (n' := 12) h dX0_mixedEntries_11 rfl ?_
      refine v_icmp_eq (n' := 15) (tgt := 71) h dX0_mixedEntries_12 rfl rfl (by omega) (by omega) (fun c12 => ?_) (fun c12 => ?_)
      · refine v_lload_n (n' := 72) h dX0_mixedEntries_71 rfl rfl ?_
        refine v_lret h hq dX0_mixedEntries_72 (by omega) (by omega) (ret_j ?_)
        exact ⟨by rw [← hlen, List.take_length], H1⟩
      · exact absurd rfl c12
    | succ m ih =>
      intro i hp1 v6 kz hm H1 ek
      rw [if_pos (by omega)] at ek
      have hget : (tl (sC s).1.1)[i]? = some ((tl (sC s).1.1).getD i 0) := by rw [List.getD_eq_getElem?_getD, List.getElem?_eq_getElem (by omega)]; rfl
      have hmem := List.mem_of_getElem? hget
      have hkk := hk1 _ hmem
      have htk : (tl (sC s).1.1).take (i + 1) = (tl (sC s).1.1).take i ++ [(tl (sC s).1.1).getD i 0] := by rw [List.take_add_one, hget]; rfl
      generalize hKK : (tl (sC s).1.1).getD i 0 = kk at ek hget hmem hkk htk
      subst ek
      generalize hAC : (((tl (sC s).1.1).take i).flatMap (dgE (sC s))).foldl sayF h0 = ac
      have enext : (((tl (sC s).1.1).take (i + 1)).flatMap (dgE (sC s))).foldl sayF h0 = ((List.range 7).map (fun j : Nat => tellE (sC s) kk (j : Int))).foldl sayF (sayF ac (kk : Int)) := by
        rw [htk, List.flatMap_append, List.foldl_append, hAC]
        simp only [List.flatMap_cons, List.flatMap_nil, List.append_nil]
        unfold dgE
        rw [List.foldl_cons]
      have hnx : nxt (sC s).1.1 (kk : Int) = (if i + 1 < tz (sC s).1.1 then (((tl (sC s).1.1).getD (i + 1) 0 : Nat) : Int) else -1) := by
        by_cases c : i + 1 < tz (sC s).1.1
        · rw [if_pos c]
          have q := nxt_get hs c
          rw [if_neg (by omega), show i + 1 - 1 = i by omega, hKK] at q
          exact q
        · rw [if_neg c]
          have q := nxt_end hs
          rw [if_neg (by omega), show tz (sC s).1.1 - 1 = i by omega, hKK] at q
          exact q
      have inner : ∀ (mm j : Nat) (hp2 : AH), j + mm = 7 → CH de hp2 W ax A t kt σ ad s → V Γ (42 * i + 6 * j) (924 * i + 132 * j) hp2 26 [some (.ref ax), some (.long (lI h0)), none, some (.long (lI (((List.range j).map (fun j : Nat => tellE (sC s) kk (j : Int))).foldl sayF (sayF ac (kk : Int))))), none, some (.int (iI kk)), some (.int (iI j))] [] := by
        intro mm
        induction mm with
        | zero =>
          intro j hp2 hj H2
          obtain rfl : j = 7 := by omega
          have hx2 := H2.1.1
          rw [← enext]
          refine v_iload (n' := 28) h dX0_mixedEntries_26 rfl rfl ?_
          refine v_bipush (n' := 30) h dX0_mixedEntries_28 rfl (by decide) ?_
          refine v_icmp_ge (n' := 33) (tgt := 60) h dX0_mixedEntries_30 rfl rfl (by omega) (by omega) (fun c30 => ?_) (fun c30 => ?_)
          · refine v_aload_n (n' := 61) h dX0_mixedEntries_60 rfl rfl ?_
            refine v_iload (n' := 63) h dX0_mixedEntries_61 rfl rfl ?_
            refine vc_callV (n' := 66) (ci := 0) h ((c_nextTo de hp2 W ax A t kt σ ad _ _ _ _ _ _ hx2 H2.2.2.1 hs (kk : Int) (by omega)).d hde) rfl (by first | assumption | exact upH_s | exact (upH_n (by assumption)).trans (by assumption) | exact (upH_n (by assumption)).trans upH_s | exact (upH_n (by assumption)).trans ((upH_n (by assumption)).trans (by assumption))) (lw_V q676 q678 qs21 q82 q679) hdX0_nextTo ⟨by omega, by decide⟩ ⟨by omega, by omega⟩ (Nat.le_of_ble_eq_true rfl) dX0_mixedEntries_63 rfl (eI fun z63 hp63 p63 => ?_) rfl
            obtain ⟨ez63, fz63⟩ := p63
            have ez63 := ez63.symm
            have fz63 := fz63.symm
            subst ez63 fz63
            refine v_istore5 (n' := 68) h dX0_mixedEntries_66 rfl rfl ?_
            refine v_goto (tgt := 9) h dX0_mixedEntries_68 rfl ?_
            exact V.widen (k2 := 42 * (i + 1)) (n2 := 924 * (i + 1)) (by omega) (by omega) (ih (i + 1) hp2 _ _ (by omega) H2 hnx)
          · omega
        | succ mm ihh =>
          intro j hp2 hj H2
          have hx2 := H2.1.1
          have ht2 := H2.2.2.1.1
          have cf := c_find de hp2 W ad _ _ _ H2.2.2.1.2.2 hs t _ _ _ _ _ _ _ _ _ ht2 (kk : Int) (by omega)
          rw [fnd_some (z := (kk : Int)) ⟨by omega, hmem⟩] at cf
          have cf : CtE de yX1_find cX1_find 3 (some (.object "CreditShelf$Entry")) (rmK 1 0 0) [.ref t, .int (iI kk)] hp2 (rQ (fun o hp' => o = some (ad kk) ∧ hp' = hp2)) := cf
          have hte := tellE_r (k := kk) (what := (j : Int)) hSh hmem
          have ej : ((j + 1 : Nat) : Int) = (j : Int) + 1 := by omega
          refine v_iload (n' := 28) h dX0_mixedEntries_26 rfl rfl ?_
          refine v_bipush (n' := 30) h dX0_mixedEntries_28 rfl (by decide) ?_
          refine v_icmp_ge (n' := 33) (tgt := 60) h dX0_mixedEntries_30 rfl rfl (by omega) (by omega) (fun c30 => ?_) (fun c30 => ?_)
          · omega
          · refine v_lload_n (n' := 34) h dX0_mixedEntries_33 rfl rfl ?_
            refine v_aload_n (n' := 35) h dX0_mixedEntries_34 rfl rfl ?_
            refine v_aload_n (n' := 36) h dX0_mixedEntries_35 rfl rfl ?_
            refine v_get (n' := 39) (ci := 0) h rfl in_X0 0 (by decide) q188 rfl dX0_mixedEntries_36 rfl (by first | assumption | exact upH_s | exact (upH_n (by assumption)).trans (by assumption) | exact (upH_n (by assumption)).trans upH_s | exact (upH_n (by assumption)).trans ((upH_n (by assumption)).trans (by assumption))) (by rfl) ?_
            refine v_iload (n' := 41) h dX0_mixedEntries_39 rfl rfl ?_
            refine vc_callV (n' := 44) (ci := 1) h ((cf).d hde) rfl (by first | assumption | exact upH_s | exact (upH_n (by assumption)).trans (by assumption) | exact (upH_n (by assumption)).trans upH_s | exact (upH_n (by assumption)).trans ((upH_n (by assumption)).trans (by assumption))) (lw_V q610 q611 q612 q83 q613) hdX1_find ⟨by omega, by decide⟩ ⟨by omega, by omega⟩ (Nat.le_of_ble_eq_true rfl) dX0_mixedEntries_41 rfl (eQ fun z41 hp41 p41 => ?_) rfl
            obtain ⟨ez41, fz41⟩ := p41
            have ez41 := ez41.symm
            have fz41 := fz41.symm
            subst ez41 fz41
            show V Γ _ _ hp2 44 [some (.ref ax), some (.long (lI h0)), none, some (.long (lI (((List.range j).map (fun j : Nat => tellE (sC s) kk (j : Int))).foldl sayF (sayF ac (kk : Int))))), none, some (.int (iI kk)), some (.int (iI j))] [.ref (ad kk), .ref ax, .long (lI (((List.range j).map (fun j : Nat => tellE (sC s) kk (j : Int))).foldl sayF (sayF ac (kk : Int))))]
            refine v_iload (n' := 46) h dX0_mixedEntries_44 rfl rfl ?_
            refine vc_callV (n' := 49) (ci := 0) h ((c_entryTold de hp2 ax s n ⟨W, A, t, kt, σ, ad, H2, hX⟩ hi hn W A t kt σ ad H2 kk hmem (j : Int) (by omega)).d hde) rfl (by first | assumption | exact upH_s | exact (upH_n (by assumption)).trans (by assumption) | exact (upH_n (by assumption)).trans upH_s | exact (upH_n (by assumption)).trans ((upH_n (by assumption)).trans (by assumption))) (lw_V q614 q616 qs16 q82 q617) hdX0_entryTold ⟨by omega, by decide⟩ ⟨by omega, by omega⟩ (Nat.le_of_ble_eq_true rfl) dX0_mixedEntries_46 rfl (eI fun z46 hp46 p46 => ?_) rfl
            obtain ⟨ez46, F46⟩ := p46
            subst ez46
            refine v_i2l (n' := 50) h dX0_mixedEntries_49 rfl (by omega) ?_
            refine vc_callS (n' := 53) h ((c_mixed de hp46 _ _).d hde) (lw_S q922 q923 q82 q924) hdX0_mixed ⟨by omega, by decide⟩ ⟨by omega, by omega⟩ (Nat.le_of_ble_eq_true rfl) dX0_mixedEntries_50 rfl (eJ fun z50 hp50 p50 => ?_) rfl
            obtain ⟨ez50, fz50⟩ := p50
            have ez50 := ez50.symm
            have fz50 := fz50.symm
            subst ez50 fz50
            refine v_lstore3 (n' := 54) h dX0_mixedEntries_53 rfl rfl ?_
            refine v_iinc6 (n' := 57) h dX0_mixedEntries_54 rfl rfl ?_
            refine v_goto (tgt := 26) h dX0_mixedEntries_57 rfl ?_
            rw [← ej]
            have q := ihh (j + 1) hp46 (by omega) (H2.ext F46)
            rw [List.range_succ, List.map_append, List.foldl_append] at q
            exact V.widen (by omega) (by omega) q
      have hx1 := H1.1.1
      refine v_iload (n' := 11) h dX0_mixedEntries_9 rfl rfl ?_
      refine v_iconst (n' := 12) h dX0_mixedEntries_11 rfl ?_
      refine v_icmp_eq (n' := 15) (tgt := 71) h dX0_mixedEntries_12 rfl rfl (by omega) (by omega) (fun c12 => ?_) (fun c12 => ?_)
      · omega
      · refine v_lload_n (n' := 16) h dX0_mixedEntries_15 rfl rfl ?_
        refine v_iload (n' := 18) h dX0_mixedEntries_16 rfl rfl ?_
        refine v_i2l (n' := 19) h dX0_mixedEntries_18 rfl (by omega) ?_
        refine vc_callS (n' := 22) h ((c_mixed de hp1 _ _).d hde) (lw_S q922 q923 q82 q924) hdX0_mixed ⟨by omega, by decide⟩ ⟨by omega, by omega⟩ (Nat.le_of_ble_eq_true rfl) dX0_mixedEntries_19 rfl (eJ fun z19 hp19 p19 => ?_) rfl
        obtain ⟨ez19, fz19⟩ := p19
        have ez19 := ez19.symm
        have fz19 := fz19.symm
        subst ez19 fz19
        refine v_lstore3 (n' := 23) h dX0_mixedEntries_22 rfl rfl ?_
        refine v_iconst (n' := 24) h dX0_mixedEntries_23 rfl ?_
        refine v_istore6 (n' := 26) h dX0_mixedEntries_24 rfl rfl ?_
        exact inner 7 0 hp1 (by omega) H1
  have hx := hH.1.1
  refine v_lload_n (n' := 1) h dX0_mixedEntries_0 rfl rfl ?_
  refine v_lstore3 (n' := 2) h dX0_mixedEntries_1 rfl rfl ?_
  refine v_aload_n (n' := 3) h dX0_mixedEntries_2 rfl rfl ?_
  refine v_iconst (n' := 4) h dX0_mixedEntries_3 rfl ?_
  refine vc_callV (n' := 7) (ci := 0) h ((c_nextTo de hp W ax A t kt σ ad _ _ _ _ _ _ hx hH.2.2.1 hs (-1) (by omega)).d hde) rfl (by first | assumption | exact upH_s | exact (upH_n (by assumption)).trans (by assumption) | exact (upH_n (by assumption)).trans upH_s | exact (upH_n (by assumption)).trans ((upH_n (by assumption)).trans (by assumption))) (lw_V q676 q678 qs21 q82 q679) hdX0_nextTo ⟨by omega, by decide⟩ ⟨by omega, by omega⟩ (Nat.le_of_ble_eq_true rfl) dX0_mixedEntries_4 rfl (eI fun z4 hp4 p4 => ?_) rfl
  obtain ⟨ez4, fz4⟩ := p4
  have ez4 := ez4.symm
  have fz4 := fz4.symm
  subst ez4 fz4
  refine v_istore5 (n' := 9) h dX0_mixedEntries_7 rfl rfl ?_
  refine outer (tz (sC s).1.1) 0 hp none _ (by omega) hH ?_
  by_cases c : 0 < tz (sC s).1.1
  · rw [if_pos c]
    have q := nxt_get hs c
    rw [if_pos rfl] at q
    exact q
  · rw [if_neg c]
    have q := nxt_end hs
    rw [if_pos (by omega)] at q
    exact q
