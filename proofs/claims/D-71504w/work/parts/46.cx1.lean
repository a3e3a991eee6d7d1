/-! THE CLASS: see, ledger, would, dear -/
set_option maxRecDepth 100000
theorem lst_app {α : Type} {l : List α} {x d : α} {i : Nat} (h : i < (l ++ [x]).length) : (l ++ [x]).getD i d = if i = l.length then x else l.getD i d := by
  rw [List.length_append, List.length_singleton] at h
  by_cases c : i = l.length
  · rw [if_pos c, c, List.getD_eq_getElem?_getD, List.getElem?_append_right (Nat.le_refl _)]
    simp
  · rw [if_neg c, List.getD_eq_getElem?_getD, List.getElem?_append_left (by omega), ← List.getD_eq_getElem?_getD]
theorem k_see (de : Nat) (hp : AH) (ax : Nat) (s : SS) (n : Int) (hC : CRel de hp ax s) (hi : SInv s n) (hn : n ≤ 64) (key what could : Int) (hk : -2147483648 ≤ key ∧ key ≤ 2147483647) (hw : -2147483648 ≤ what ∧ what ≤ 2147483647) (hc : could = 0 ∨ could = 1) : CtE de yX0_see cX0_see 4 (some .int) (rmK 2 0 0) [.ref ax, .int (iI key), .int (iI what), .int (iI could)] hp (rI (fun z hp' => z = (oSee s key what could).1 ∧ CRel de hp' ax (oSee s key what could).2)) := by
  have hC2 := hC
  obtain ⟨W, A, t, kt, σ, ad, hH, hX⟩ := hC
  have hr := x_r hX hi hn
  have hx := hH.1.1
  have h7 : hp (A 7) = some (aG 0 6 (σ.2 7)) := (hH.1.2.2.1 7 (by decide)).1
  have h8 : hp (A 8) = some (aG 0 6 (σ.2 8)) := (hH.1.2.2.1 8 (by decide)).1
  have h9 : hp (A 9) = some (aG 2 6 (σ.2 9)) := (hH.1.2.2.1 9 (by decide)).1
  have n7 : ax ≠ A 7 := (hH.1.na (by decide)).symm
  have n8 : ax ≠ A 8 := (hH.1.na (by decide)).symm
  have n9 : ax ≠ A 9 := (hH.1.na (by decide)).symm
  have n87 : A 8 ≠ A 7 := fun z => by have := hH.1.2.2.2 8 7 (by decide) (by decide) z; omega
  have n97 : A 9 ≠ A 7 := fun z => by have := hH.1.2.2.2 9 7 (by decide) (by decide) z; omega
  have n98 : A 9 ≠ A 8 := fun z => by have := hH.1.2.2.2 9 8 (by decide) (by decide) z; omega
  have e6 : σ.1 6 = ((sC s).2.2.2.2.length : Int) := hX.2.2.2.2.1.1
  have e1 : σ.1 1 = sSh s := hX.1
  have nz : narrow .boolean (.int (iI could)) = .int (iI could) := by rcases hc with rfl | rfl <;> decide
  unfold oSee
  refine CtE.of (by decide) (EL.c1 rfl (EL.c1 rfl (EL.c1 rfl (EL.c1 rfl EL.n0)))) (fun Γ h hq hnm hde => ?_)
  refine v_iload_n (n' := 1) h dX0_see_0 rfl rfl ?_
  refine v_iconst (n' := 2) h dX0_see_1 rfl ?_
  refine v_bipush (n' := 4) h dX0_see_2 rfl (by decide) ?_
  refine vc_callS (n' := 7) h ((c_in de hp key 0 99 hk (by omega) (by omega)).d hde) (lw_S q255 q256 q82 q257) hdX0_in ⟨by omega, by decide⟩ ⟨by omega, by omega⟩ (Nat.le_of_ble_eq_true rfl) dX0_see_4 rfl (eI fun z4 hp4 p4 => ?_) rfl
  obtain ⟨ez4, fz4⟩ := p4
  have ez4 := ez4.symm
  have fz4 := fz4.symm
  subst ez4 fz4
  refine v_bif_eq (n' := 10) (tgt := 19) h dX0_see_7 rfl rfl (fun c7 => ?_) (fun c7 => ?_)
  · refine v_bipush (n' := 21) h dX0_see_19 rfl (by decide) ?_
    refine v_iret h hq dX0_see_21 (by omega) (by omega) (ret_i ?_)
    rw [if_pos (by omega)]; exact ⟨rfl, hC2⟩
  · refine v_iload_n (n' := 11) h dX0_see_10 rfl rfl ?_
    refine v_iconst (n' := 12) h dX0_see_11 rfl ?_
    refine v_iconst (n' := 13) h dX0_see_12 rfl ?_
    refine vc_callS (n' := 16) h ((c_in de hp what 0 3 hw (by omega) (by omega)).d hde) (lw_S q255 q256 q82 q257) hdX0_in ⟨by omega, by decide⟩ ⟨by omega, by omega⟩ (Nat.le_of_ble_eq_true rfl) dX0_see_13 rfl (eI fun z13 hp13 p13 => ?_) rfl
    obtain ⟨ez13, fz13⟩ := p13
    have ez13 := ez13.symm
    have fz13 := fz13.symm
    subst ez13 fz13
    refine v_bif_ne (n' := 19) (tgt := 22) h dX0_see_16 rfl rfl (fun c16 => ?_) (fun c16 => ?_)
    · refine v_aload_n (n' := 23) h dX0_see_22 rfl rfl ?_
      refine vc_callV (n' := 26) (ci := 0) h ((c_isShelf de hp ax A t kt σ hx (by omega)).d hde) rfl (by first | assumption | exact upH_s | exact (upH_n (by assumption)).trans (by assumption) | exact (upH_n (by assumption)).trans upH_s | exact (upH_n (by assumption)).trans ((upH_n (by assumption)).trans (by assumption))) (lw_V q684 q686 qs22 q82 q687) hdX0_isShelf ⟨by omega, by decide⟩ ⟨by omega, by omega⟩ (Nat.le_of_ble_eq_true rfl) dX0_see_23 rfl (eI fun z23 hp23 p23 => ?_) rfl
      obtain ⟨ez23, fz23⟩ := p23
      have ez23 := ez23.symm
      have fz23 := fz23.symm
      subst ez23 fz23
      refine v_bif_ne (n' := 29) (tgt := 32) h dX0_see_26 rfl rfl (fun c26 => ?_) (fun c26 => ?_)
      · refine v_aload_n (n' := 33) h dX0_see_32 rfl rfl ?_
        refine v_get (n' := 36) (ci := 0) h rfl in_X0 6 (by decide) q196 rfl dX0_see_33 rfl (by first | assumption | exact upH_s | exact (upH_n (by assumption)).trans (by assumption) | exact (upH_n (by assumption)).trans upH_s | exact (upH_n (by assumption)).trans ((upH_n (by assumption)).trans (by assumption))) (by rfl) ?_
        refine v_bipush (n' := 38) h dX0_see_36 rfl (by decide) ?_
        refine v_icmp_ne (n' := 41) (tgt := 44) h dX0_see_38 rfl rfl (by omega) (by omega) (fun c38 => ?_) (fun c38 => ?_)
        · refine v_aload_n (n' := 45) h dX0_see_44 rfl rfl ?_
          refine v_get (n' := 48) (ci := 0) h rfl in_X0 7 (by decide) q197 rfl dX0_see_45 rfl (by first | assumption | exact upH_s | exact (upH_n (by assumption)).trans (by assumption) | exact (upH_n (by assumption)).trans upH_s | exact (upH_n (by assumption)).trans ((upH_n (by assumption)).trans (by assumption))) (by rfl) ?_
          refine v_aload_n (n' := 49) h dX0_see_48 rfl rfl ?_
          refine v_get (n' := 52) (ci := 0) h rfl in_X0 6 (by decide) q196 rfl dX0_see_49 rfl (by first | assumption | exact upH_s | exact (upH_n (by assumption)).trans (by assumption) | exact (upH_n (by assumption)).trans upH_s | exact (upH_n (by assumption)).trans ((upH_n (by assumption)).trans (by assumption))) (by rfl) ?_
          refine v_iload_n (n' := 53) h dX0_see_52 rfl rfl ?_
          refine v_giast (n' := 54) h dX0_see_53 rfl (by first | assumption | exact upH_s | exact (upH_n (by assumption)).trans (by assumption) | exact (upH_n (by assumption)).trans upH_s | exact (upH_n (by assumption)).trans ((upH_n (by assumption)).trans (by assumption))) (by omega) (by omega) ?_
          refine v_aload_n (n' := 55) h dX0_see_54 rfl rfl ?_
          refine v_get (n' := 58) (ci := 0) h rfl in_X0 8 (by decide) q198 rfl dX0_see_55 rfl (by first | assumption | exact upH_s | exact (upH_n (by assumption)).trans (by assumption) | exact (upH_n (by assumption)).trans upH_s | exact (upH_n (by assumption)).trans ((upH_n (by assumption)).trans (by assumption))) (by rfl) ?_
          refine v_aload_n (n' := 59) h dX0_see_58 rfl rfl ?_
          refine v_get (n' := 62) (ci := 0) h rfl in_X0 6 (by decide) q196 rfl dX0_see_59 rfl (by first | assumption | exact upH_s | exact (upH_n (by assumption)).trans (by assumption) | exact (upH_n (by assumption)).trans upH_s | exact (upH_n (by assumption)).trans ((upH_n (by assumption)).trans (by assumption))) (by rfl) ?_
          refine v_iload_n (n' := 63) h dX0_see_62 rfl rfl ?_
          refine v_giast (n' := 64) h dX0_see_63 rfl (by first | assumption | exact upH_s | exact (upH_n (by assumption)).trans (by assumption) | exact (upH_n (by assumption)).trans upH_s | exact (upH_n (by assumption)).trans ((upH_n (by assumption)).trans (by assumption))) (by omega) (by omega) ?_
          refine v_aload_n (n' := 65) h dX0_see_64 rfl rfl ?_
          refine v_get (n' := 68) (ci := 0) h rfl in_X0 9 (by decide) q199 rfl dX0_see_65 rfl ((upH_n n8).trans ((upH_n n7).trans hx)) (by rfl) ?_
          refine v_aload_n (n' := 69) h dX0_see_68 rfl rfl ?_
          refine v_get (n' := 72) (ci := 0) h rfl in_X0 6 (by decide) q196 rfl dX0_see_69 rfl ((upH_n n8).trans ((upH_n n7).trans hx)) (by rfl) ?_
          refine v_iload_n (n' := 73) h dX0_see_72 rfl rfl ?_
          refine v_gzast (n' := 74) h dX0_see_73 rfl ((upH_n n98).trans ((upH_n n97).trans h9)) (by omega) (by omega) nz ?_
          refine v_aload_n (n' := 75) h dX0_see_74 rfl rfl ?_
          refine v_dup (n' := 76) h dX0_see_75 rfl rfl ?_
          refine v_get (n' := 79) (ci := 0) h rfl in_X0 6 (by decide) q196 rfl dX0_see_76 rfl ((upH_n n9).trans ((upH_n n8).trans ((upH_n n7).trans hx))) (by rfl) ?_
          refine v_iconst (n' := 80) h dX0_see_79 rfl ?_
          refine v_iadd (n' := 81) h dX0_see_80 rfl ?_
          refine v_put (n' := 84) (ci := 0) h rfl in_X0 tyX0 tyX0_ok nmX0 6 (by decide) q196 rfl rfl dX0_see_81 rfl ((upH_n n9).trans ((upH_n n8).trans ((upH_n n7).trans hx))) (by show 6 < 20; decide) rfl rfl ?_
          refine v_aload_n (n' := 85) h dX0_see_84 rfl rfl ?_
          refine v_get (n' := 88) (ci := 0) h rfl in_X0 6 (by decide) q196 rfl dX0_see_85 rfl (by first | assumption | exact upH_s | exact (upH_n (by assumption)).trans (by assumption) | exact (upH_n (by assumption)).trans upH_s | exact (upH_n (by assumption)).trans ((upH_n (by assumption)).trans (by assumption))) (by rfl) ?_
          refine v_iret h hq dX0_see_88 (by omega) (by omega) (ret_i ?_)
          rw [if_neg (by omega), if_neg (by omega), if_neg (by omega)]
          refine ⟨by rw [e6], W, A, t, kt, setI (setA (setA (setA σ 7 (σ.1 6) key) 8 (σ.1 6) what) 9 (σ.1 6) could) 6 (σ.1 6 + 1), ad, ?_, ?_⟩
          · exact ((((hH.wA (f := 7) (i := σ.1 6) (x := key) (by decide) (by decide)).wA (f := 8) (i := σ.1 6) (x := what) (by decide) (by decide)).wA (f := 9) (i := σ.1 6) (x := could) (by decide) (by decide)).wI (f := 6) (v := σ.1 6 + 1) (by decide)).sp (Or.inr ⟨rfl, rfl, rfl⟩) ⟨rfl, rfl, rfl, rfl, rfl, rfl⟩
          · obtain ⟨x1, x2, x3, x4, x5, x6⟩ := hX
            refine ⟨x1, x2, x3, x4.cg rfl rfl, ⟨?_, ?_, fun i hi => ?_⟩, fun i => ⟨?_, (x6 i).2⟩⟩
            · show σ.1 6 + 1 = (((sC s).2.2.2.2 ++ [(key, what, could)]).length : Int)
              rw [List.length_append, e6]; rfl
            · show ((sC s).2.2.2.2 ++ [(key, what, could)]).length ≤ 6
              rw [List.length_append]
              have := x5.2.1
              show _ + 1 ≤ 6
              omega
            · have hi : i < ((sC s).2.2.2.2 ++ [(key, what, could)]).length := hi
              show (if 7 = 7 ∧ (i : Int) = σ.1 6 then key else σ.2 7 i) = (((sC s).2.2.2.2 ++ [(key, what, could)]).getD i (0, 0, 0)).1 ∧ (if 8 = 8 ∧ (i : Int) = σ.1 6 then what else σ.2 8 i) = (((sC s).2.2.2.2 ++ [(key, what, could)]).getD i (0, 0, 0)).2.1 ∧ (if 9 = 9 ∧ (i : Int) = σ.1 6 then could else σ.2 9 i) = (((sC s).2.2.2.2 ++ [(key, what, could)]).getD i (0, 0, 0)).2.2
              rw [lst_app hi]
              by_cases ci : i = (sC s).2.2.2.2.length
              · rw [if_pos ci, if_pos ⟨rfl, by omega⟩, if_pos ⟨rfl, by omega⟩, if_pos ⟨rfl, by omega⟩]
                exact ⟨rfl, rfl, rfl⟩
              · rw [if_neg ci, if_neg (fun z => ci (by omega)), if_neg (fun z => ci (by omega)), if_neg (fun z => ci (by omega))]
                rw [List.length_append] at hi
                exact x5.2.2 i (by have : i < (sC s).2.2.2.2.length + 1 := hi; omega)
            · show (if 9 = 9 ∧ i = σ.1 6 then could else σ.2 9 i) = 0 ∨ (if 9 = 9 ∧ i = σ.1 6 then could else σ.2 9 i) = 1
              split
              · exact hc
              · exact (x6 i).1
        · refine v_bipush (n' := 43) h dX0_see_41 rfl (by decide) ?_
          refine v_iret h hq dX0_see_43 (by omega) (by omega) (ret_i ?_)
          rw [if_neg (by omega), if_neg (by omega), if_pos (by omega)]; exact ⟨rfl, hC2⟩
      · refine v_bipush (n' := 31) h dX0_see_29 rfl (by decide) ?_
        refine v_iret h hq dX0_see_31 (by omega) (by omega) (ret_i ?_)
        rw [if_neg (by omega), if_pos (by omega)]; exact ⟨rfl, hC2⟩
    · refine v_bipush (n' := 21) h dX0_see_19 rfl (by decide) ?_
      refine v_iret h hq dX0_see_21 (by omega) (by omega) (ret_i ?_)
      rw [if_pos (by omega)]; exact ⟨rfl, hC2⟩
/-- what is known of the live tree -/
theorem tr_all {s : SS} {n : Int} (hi : SInv s n) (hn : n ≤ 64) : Srt (sC s).1.1 ∧ tz (sC s).1.1 ≤ 40 ∧ TeB (sC s).1 256000 ∧ (∀ k ∈ tl (sC s).1.1, k < 100) ∧ (sSh s ≠ 0 → isRat (sA s) (sB s) ∧ 0 ≤ sF s ∧ sF s ≤ 9) ∧ 0 ≤ sSh s := by
  obtain ⟨i1, i2, i3, i4, i5, -⟩ := hi
  obtain ⟨s1, s2, s3, s4, -⟩ := i5
  refine ⟨s1, s3, ?_, s2, fun z => ?_, i3.1⟩
  · obtain ⟨b1, b2, b3, b4, b5⟩ := s4
    exact ⟨b1, by omega, by omega, by omega, by omega⟩
  · rcases i4 with q | q
    · exact absurd q.1 z
    · exact q.2
theorem c_ledgerTold (de : Nat) (hp : AH) (ax : Nat) (s : SS) (n : Int) (hC : CRel de hp ax s) (hi : SInv s n) (hn : n ≤ 64) (hsh : sSh s ≠ 0) (what : Int) (hw : 0 ≤ what ∧ what ≤ 6) : CtE de yX0_ledgerTold cX0_ledgerTold 2 (some .int) (rmK 51 0 0) [.ref ax, .int (iI what)] hp (rI (fun z hp' => z = ledg (sA s) (sB s) (sC s).1 what ∧ hp' = hp)) := by
  obtain ⟨W, A, t, kt, σ, ad, hH, hX⟩ := hC
  have hx := hH.1.1
  obtain ⟨ht, hWt, hT⟩ := hH.2.2.1
  obtain ⟨hs, hz, hB, hk, hab, -⟩ := tr_all hi hn
  obtain ⟨hab, hf⟩ := hab hsh
  unfold ledg
  refine CtE.of (by decide) (EL.c1 rfl (EL.c1 rfl EL.n0)) (fun Γ h hq hnm hde => ?_)
  refine v_iload_n (n' := 1) h dX0_ledgerTold_0 rfl rfl ?_
  refine v_table6 (t0 := 40) (t1 := 51) (t2 := 66) (t3 := 74) (t4 := 85) (t5 := 96) (td := 104) h dX0_ledgerTold_1 (by omega) rfl rfl rfl rfl rfl rfl rfl rfl (fun s1 => ?_) (fun s1 => ?_) (fun s1 => ?_) (fun s1 => ?_) (fun s1 => ?_) (fun s1 => ?_) (fun s1 => ?_)
  · refine v_aload_n (n' := 41) h dX0_ledgerTold_40 rfl rfl ?_
    refine v_get (n' := 44) (ci := 0) h rfl in_X0 0 (by decide) q188 rfl dX0_ledgerTold_41 rfl (by first | assumption | exact upH_s | exact (upH_n (by assumption)).trans (by assumption) | exact (upH_n (by assumption)).trans upH_s | exact (upH_n (by assumption)).trans ((upH_n (by assumption)).trans (by assumption))) (by rfl) ?_
    refine v_getN (n' := 47) (ci := 1) h rfl in_X1 0 (by decide) q119 rfl dX0_ledgerTold_44 rfl (by first | assumption | exact upH_s | exact (upH_n (by assumption)).trans (by assumption) | exact (upH_n (by assumption)).trans upH_s | exact (upH_n (by assumption)).trans ((upH_n (by assumption)).trans (by assumption))) (by rfl) ?_
    refine vc_callS (n' := 50) h ((c_tallOf de hp W ad _ _ _ hT 40 (by omega) (by omega)).d hde) (lw_S q779 q780 q82 q781) hdX0_tallOf ⟨by omega, by decide⟩ ⟨by omega, by omega⟩ (Nat.le_of_ble_eq_true rfl) dX0_ledgerTold_47 rfl (eI fun z47 hp47 p47 => ?_) rfl
    obtain ⟨ez47, fz47⟩ := p47
    have ez47 := ez47.symm
    have fz47 := fz47.symm
    subst ez47 fz47
    refine v_iret h hq dX0_ledgerTold_50 (by omega) (by omega) (ret_i ?_)
    exact ⟨by rw [if_pos s1], rfl⟩
  · refine v_aload_n (n' := 52) h dX0_ledgerTold_51 rfl rfl ?_
    refine v_get (n' := 55) (ci := 0) h rfl in_X0 0 (by decide) q188 rfl dX0_ledgerTold_52 rfl (by first | assumption | exact upH_s | exact (upH_n (by assumption)).trans (by assumption) | exact (upH_n (by assumption)).trans upH_s | exact (upH_n (by assumption)).trans ((upH_n (by assumption)).trans (by assumption))) (by rfl) ?_
    refine v_aload_n (n' := 56) h dX0_ledgerTold_55 rfl rfl ?_
    refine v_get (n' := 59) (ci := 0) h rfl in_X0 0 (by decide) q188 rfl dX0_ledgerTold_56 rfl (by first | assumption | exact upH_s | exact (upH_n (by assumption)).trans (by assumption) | exact (upH_n (by assumption)).trans upH_s | exact (upH_n (by assumption)).trans ((upH_n (by assumption)).trans (by assumption))) (by rfl) ?_
    refine v_getN (n' := 62) (ci := 1) h rfl in_X1 4 (by decide) q127 rfl dX0_ledgerTold_59 rfl (by first | assumption | exact upH_s | exact (upH_n (by assumption)).trans (by assumption) | exact (upH_n (by assumption)).trans upH_s | exact (upH_n (by assumption)).trans ((upH_n (by assumption)).trans (by assumption))) (by rfl) ?_
    refine vc_callV (n' := 65) (ci := 1) h ((c_limit de hp t _ _ _ _ _ _ _ _ _ _ ht (tz (sC s).1.1 : Int) hab (by omega)).d hde) rfl (by first | assumption | exact upH_s | exact (upH_n (by assumption)).trans (by assumption) | exact (upH_n (by assumption)).trans upH_s | exact (upH_n (by assumption)).trans ((upH_n (by assumption)).trans (by assumption))) (lw_V q783 q581 q582 q83 q583) hdX1_limit ⟨by omega, by decide⟩ ⟨by omega, by omega⟩ (Nat.le_of_ble_eq_true rfl) dX0_ledgerTold_62 rfl (eI fun z62 hp62 p62 => ?_) rfl
    obtain ⟨ez62, fz62⟩ := p62
    have ez62 := ez62.symm
    have fz62 := fz62.symm
    subst ez62 fz62
    refine v_iret h hq dX0_ledgerTold_65 (by omega) (by omega) (ret_i ?_)
    exact ⟨by rw [if_neg (by omega), if_pos s1], rfl⟩
  · refine v_aload_n (n' := 67) h dX0_ledgerTold_66 rfl rfl ?_
    refine v_get (n' := 70) (ci := 0) h rfl in_X0 0 (by decide) q188 rfl dX0_ledgerTold_67 rfl (by first | assumption | exact upH_s | exact (upH_n (by assumption)).trans (by assumption) | exact (upH_n (by assumption)).trans upH_s | exact (upH_n (by assumption)).trans ((upH_n (by assumption)).trans (by assumption))) (by rfl) ?_
    refine v_getN (n' := 73) (ci := 1) h rfl in_X1 5 (by decide) q129 rfl dX0_ledgerTold_70 rfl (by first | assumption | exact upH_s | exact (upH_n (by assumption)).trans (by assumption) | exact (upH_n (by assumption)).trans upH_s | exact (upH_n (by assumption)).trans ((upH_n (by assumption)).trans (by assumption))) (by rfl) ?_
    refine v_iret h hq dX0_ledgerTold_73 (by omega) (by omega) (ret_i ?_)
    exact ⟨by rw [if_neg (by omega), if_neg (by omega), if_pos s1], rfl⟩
  · refine v_ldc (n' := 76) (z := 100000) h dX0_ledgerTold_74 rfl q784 (by decide) ?_
    refine v_aload_n (n' := 77) h dX0_ledgerTold_76 rfl rfl ?_
    refine v_get (n' := 80) (ci := 0) h rfl in_X0 0 (by decide) q188 rfl dX0_ledgerTold_77 rfl (by first | assumption | exact upH_s | exact (upH_n (by assumption)).trans (by assumption) | exact (upH_n (by assumption)).trans upH_s | exact (upH_n (by assumption)).trans ((upH_n (by assumption)).trans (by assumption))) (by rfl) ?_
    refine v_getN (n' := 83) (ci := 1) h rfl in_X1 6 (by decide) q131 rfl dX0_ledgerTold_80 rfl (by first | assumption | exact upH_s | exact (upH_n (by assumption)).trans (by assumption) | exact (upH_n (by assumption)).trans upH_s | exact (upH_n (by assumption)).trans ((upH_n (by assumption)).trans (by assumption))) (by rfl) ?_
    refine v_iadd (n' := 84) h dX0_ledgerTold_83 rfl ?_
    refine v_iret h hq dX0_ledgerTold_84 (by omega) (by omega) (ret_i ?_)
    exact ⟨by rw [if_neg (by omega), if_neg (by omega), if_neg (by omega), if_pos s1], rfl⟩
  · refine v_ldc (n' := 87) (z := 100000) h dX0_ledgerTold_85 rfl q784 (by decide) ?_
    refine v_aload_n (n' := 88) h dX0_ledgerTold_87 rfl rfl ?_
    refine v_get (n' := 91) (ci := 0) h rfl in_X0 0 (by decide) q188 rfl dX0_ledgerTold_88 rfl (by first | assumption | exact upH_s | exact (upH_n (by assumption)).trans (by assumption) | exact (upH_n (by assumption)).trans upH_s | exact (upH_n (by assumption)).trans ((upH_n (by assumption)).trans (by assumption))) (by rfl) ?_
    refine v_getN (n' := 94) (ci := 1) h rfl in_X1 7 (by decide) q133 rfl dX0_ledgerTold_91 rfl (by first | assumption | exact upH_s | exact (upH_n (by assumption)).trans (by assumption) | exact (upH_n (by assumption)).trans upH_s | exact (upH_n (by assumption)).trans ((upH_n (by assumption)).trans (by assumption))) (by rfl) ?_
    refine v_iadd (n' := 95) h dX0_ledgerTold_94 rfl ?_
    refine v_iret h hq dX0_ledgerTold_95 (by omega) (by omega) (ret_i ?_)
    exact ⟨by rw [if_neg (by omega), if_neg (by omega), if_neg (by omega), if_neg (by omega), if_pos s1], rfl⟩
  · refine v_aload_n (n' := 97) h dX0_ledgerTold_96 rfl rfl ?_
    refine v_get (n' := 100) (ci := 0) h rfl in_X0 0 (by decide) q188 rfl dX0_ledgerTold_97 rfl (by first | assumption | exact upH_s | exact (upH_n (by assumption)).trans (by assumption) | exact (upH_n (by assumption)).trans upH_s | exact (upH_n (by assumption)).trans ((upH_n (by assumption)).trans (by assumption))) (by rfl) ?_
    refine v_getN (n' := 103) (ci := 1) h rfl in_X1 8 (by decide) q135 rfl dX0_ledgerTold_100 rfl (by first | assumption | exact upH_s | exact (upH_n (by assumption)).trans (by assumption) | exact (upH_n (by assumption)).trans upH_s | exact (upH_n (by assumption)).trans ((upH_n (by assumption)).trans (by assumption))) (by rfl) ?_
    refine v_iret h hq dX0_ledgerTold_103 (by omega) (by omega) (ret_i ?_)
    exact ⟨by rw [if_neg (by omega), if_neg (by omega), if_neg (by omega), if_neg (by omega), if_neg (by omega), if_pos s1], rfl⟩
  · refine v_aload_n (n' := 105) h dX0_ledgerTold_104 rfl rfl ?_
    refine v_get (n' := 108) (ci := 0) h rfl in_X0 0 (by decide) q188 rfl dX0_ledgerTold_105 rfl (by first | assumption | exact upH_s | exact (upH_n (by assumption)).trans (by assumption) | exact (upH_n (by assumption)).trans upH_s | exact (upH_n (by assumption)).trans ((upH_n (by assumption)).trans (by assumption))) (by rfl) ?_
    refine v_getN (n' := 111) (ci := 1) h rfl in_X1 9 (by decide) q137 rfl dX0_ledgerTold_108 rfl (by first | assumption | exact upH_s | exact (upH_n (by assumption)).trans (by assumption) | exact (upH_n (by assumption)).trans upH_s | exact (upH_n (by assumption)).trans ((upH_n (by assumption)).trans (by assumption))) (by rfl) ?_
    refine v_iret h hq dX0_ledgerTold_111 (by omega) (by omega) (ret_i ?_)
    exact ⟨by rw [if_neg (by omega), if_neg (by omega), if_neg (by omega), if_neg (by omega), if_neg (by omega), if_neg (by omega)], rfl⟩
theorem k_ledger (de : Nat) (hp : AH) (ax : Nat) (s : SS) (n : Int) (hC : CRel de hp ax s) (hi : SInv s n) (hn : n ≤ 64) (what : Int) (hw : -2147483648 ≤ what ∧ what ≤ 2147483647) : CtE de yX0_ledger cX0_ledger 2 (some .int) (rmK 52 0 0) [.ref ax, .int (iI what)] hp (rI (fun z hp' => z = oLedger s what ∧ CRel de hp' ax s)) := by
  have hC2 := hC
  obtain ⟨W, A, t, kt, σ, ad, hH, hX⟩ := hC2
  have hr := x_r hX hi hn
  have hx := hH.1.1
  have e1 : σ.1 1 = sSh s := hX.1
  unfold oLedger
  refine CtE.of (by decide) (EL.c1 rfl (EL.c1 rfl EL.n0)) (fun Γ h hq hnm hde => ?_)
  refine v_iload_n (n' := 1) h dX0_ledger_0 rfl rfl ?_
  refine v_iconst (n' := 2) h dX0_ledger_1 rfl ?_
  refine v_bipush (n' := 4) h dX0_ledger_2 rfl (by decide) ?_
  refine vc_callS (n' := 7) h ((c_in de hp what 0 6 hw (by omega) (by omega)).d hde) (lw_S q255 q256 q82 q257) hdX0_in ⟨by omega, by decide⟩ ⟨by omega, by omega⟩ (Nat.le_of_ble_eq_true rfl) dX0_ledger_4 rfl (eI fun z4 hp4 p4 => ?_) rfl
  obtain ⟨ez4, fz4⟩ := p4
  have ez4 := ez4.symm
  have fz4 := fz4.symm
  subst ez4 fz4
  refine v_bif_ne (n' := 10) (tgt := 13) h dX0_ledger_7 rfl rfl (fun c7 => ?_) (fun c7 => ?_)
  · refine v_aload_n (n' := 14) h dX0_ledger_13 rfl rfl ?_
    refine vc_callV (n' := 17) (ci := 0) h ((c_isShelf de hp ax A t kt σ hx (by omega)).d hde) rfl (by first | assumption | exact upH_s | exact (upH_n (by assumption)).trans (by assumption) | exact (upH_n (by assumption)).trans upH_s | exact (upH_n (by assumption)).trans ((upH_n (by assumption)).trans (by assumption))) (lw_V q684 q686 qs22 q82 q687) hdX0_isShelf ⟨by omega, by decide⟩ ⟨by omega, by omega⟩ (Nat.le_of_ble_eq_true rfl) dX0_ledger_14 rfl (eI fun z14 hp14 p14 => ?_) rfl
    obtain ⟨ez14, fz14⟩ := p14
    have ez14 := ez14.symm
    have fz14 := fz14.symm
    subst ez14 fz14
    refine v_bif_eq (n' := 20) (tgt := 28) h dX0_ledger_17 rfl rfl (fun c17 => ?_) (fun c17 => ?_)
    · refine v_bipush (n' := 30) h dX0_ledger_28 rfl (by decide) ?_
      refine v_iret h hq dX0_ledger_30 (by omega) (by omega) (ret_i ?_)
      exact ⟨by rw [if_neg (by omega), if_pos (by omega)], hC⟩
    · refine v_aload_n (n' := 21) h dX0_ledger_20 rfl rfl ?_
      refine v_iload_n (n' := 22) h dX0_ledger_21 rfl rfl ?_
      refine vc_callV (n' := 25) (ci := 0) h ((c_ledgerTold de hp ax s n hC hi hn (by omega) what (by omega)).d hde) rfl (by first | assumption | exact upH_s | exact (upH_n (by assumption)).trans (by assumption) | exact (upH_n (by assumption)).trans upH_s | exact (upH_n (by assumption)).trans ((upH_n (by assumption)).trans (by assumption))) (lw_V q775 q777 qs25 q82 q778) hdX0_ledgerTold ⟨by omega, by decide⟩ ⟨by omega, by omega⟩ (Nat.le_of_ble_eq_true rfl) dX0_ledger_22 rfl (eI fun z22 hp22 p22 => ?_) rfl
      obtain ⟨ez22, fz22⟩ := p22
      have ez22 := ez22.symm
      have fz22 := fz22.symm
      subst ez22 fz22
      refine v_goto (tgt := 30) h dX0_ledger_25 rfl ?_
      refine v_iret h hq dX0_ledger_30 (by omega) (by omega) (ret_i ?_)
      exact ⟨by rw [if_neg (by omega), if_neg (by omega)], hC⟩
  · refine v_bipush (n' := 12) h dX0_ledger_10 rfl (by decide) ?_
    refine v_iret h hq dX0_ledger_12 (by omega) (by omega) (ret_i ?_)
    rw [if_pos (by omega)]; exact ⟨rfl, hC⟩
theorem fnd_some {T : Tr} {z : Int} (h : 0 ≤ z ∧ z.toNat ∈ tl T) : fnd T z = some z.toNat := if_pos h
theorem fnd_none {T : Tr} {z : Int} (h : ¬ (0 ≤ z ∧ z.toNat ∈ tl T)) : fnd T z = none := if_neg h
theorem c_wouldBuild (de : Nat) (hp : AH) (ax : Nat) (s : SS) (n : Int) (hC : CRel de hp ax s) (hi : SInv s n) (hn : n ≤ 64) (hsh : sSh s ≠ 0) (hz : tz (sC s).1.1 < 40) (key : Nat) (hk : key < 100) : CtE de yX0_wouldBuild cX0_wouldBuild 2 (some .int) (rmK 52 6 132) [.ref ax, .int (iI key)] hp (rI (fun z hp' => z = wouldV (sA s) (sB s) (sC s).1.1 key ∧ Frm (Fsh hp) hp hp')) := by
  obtain ⟨W, A, t, kt, σ, ad, hH, hX⟩ := hC
  have hx := hH.1.1
  have hTT := hH.2.2.1
  have ht := hTT.1
  obtain ⟨hs, hz1, hB, hk1, hab, -⟩ := tr_all hi hn
  obtain ⟨hab, hf⟩ := hab hsh
  have ct : ((key : Nat) : Int).toNat = key := Int.toNat_natCast key
  unfold wouldV
  refine CtE.of (by decide) (EL.c1 rfl (EL.c1 rfl EL.n0)) (fun Γ h hq hnm hde => ?_)
  by_cases c : key ∈ tl (sC s).1.1
  · have e1 : fnd (sC s).1.1 (key : Int) = some key := by rw [fnd_some ⟨by omega, by rw [ct]; exact c⟩, ct]
    have cf := c_find de hp W ad _ _ _ hTT.2.2 hs t _ _ _ _ _ _ _ _ _ ht (key : Int) (by omega)
    rw [e1] at cf
    rw [if_pos c] at hq
    refine v_aload_n (n' := 1) h dX0_wouldBuild_0 rfl rfl ?_
    refine v_get (n' := 4) (ci := 0) h rfl in_X0 0 (by decide) q188 rfl dX0_wouldBuild_1 rfl (by first | assumption | exact upH_s | exact (upH_n (by assumption)).trans (by assumption) | exact (upH_n (by assumption)).trans upH_s | exact (upH_n (by assumption)).trans ((upH_n (by assumption)).trans (by assumption))) (by rfl) ?_
    refine v_iload_n (n' := 5) h dX0_wouldBuild_4 rfl rfl ?_
    refine vc_callV (n' := 8) (ci := 1) h ((cf).d hde) rfl (by first | assumption | exact upH_s | exact (upH_n (by assumption)).trans (by assumption) | exact (upH_n (by assumption)).trans upH_s | exact (upH_n (by assumption)).trans ((upH_n (by assumption)).trans (by assumption))) (lw_V q610 q611 q612 q83 q613) hdX1_find ⟨by omega, by decide⟩ ⟨by omega, by omega⟩ (Nat.le_of_ble_eq_true rfl) dX0_wouldBuild_5 rfl (eQ fun z5 hp5 p5 => ?_) rfl
    obtain ⟨ez5, fz5⟩ := p5
    have ez5 := ez5.symm
    have fz5 := fz5.symm
    subst ez5 fz5
    refine v_ifnull (n' := 11) (tgt := 15) h dX0_wouldBuild_8 rfl rfl (fun c8 => ?_) (fun a8 c8 => ?_)
    · cases c8
    · refine v_iconst (n' := 12) h dX0_wouldBuild_11 rfl ?_
      refine v_goto (tgt := 23) h dX0_wouldBuild_12 rfl ?_
      refine v_iret h hq dX0_wouldBuild_23 (by omega) (by omega) (ret_i ?_)
      exact ⟨rfl, Frm.rf⟩
  · have e1 : fnd (sC s).1.1 (key : Int) = none := fnd_none (fun z => c (by rw [ct] at z; exact z.2))
    have cf := c_find de hp W ad _ _ _ hTT.2.2 hs t _ _ _ _ _ _ _ _ _ ht (key : Int) (by omega)
    rw [e1] at cf
    rw [if_neg c] at hq
    refine v_aload_n (n' := 1) h dX0_wouldBuild_0 rfl rfl ?_
    refine v_get (n' := 4) (ci := 0) h rfl in_X0 0 (by decide) q188 rfl dX0_wouldBuild_1 rfl (by first | assumption | exact upH_s | exact (upH_n (by assumption)).trans (by assumption) | exact (upH_n (by assumption)).trans upH_s | exact (upH_n (by assumption)).trans ((upH_n (by assumption)).trans (by assumption))) (by rfl) ?_
    refine v_iload_n (n' := 5) h dX0_wouldBuild_4 rfl rfl ?_
    refine vc_callV (n' := 8) (ci := 1) h ((cf).d hde) rfl (by first | assumption | exact upH_s | exact (upH_n (by assumption)).trans (by assumption) | exact (upH_n (by assumption)).trans upH_s | exact (upH_n (by assumption)).trans ((upH_n (by assumption)).trans (by assumption))) (lw_V q610 q611 q612 q83 q613) hdX1_find ⟨by omega, by decide⟩ ⟨by omega, by omega⟩ (Nat.le_of_ble_eq_true rfl) dX0_wouldBuild_5 rfl (eQ fun z5 hp5 p5 => ?_) rfl
    obtain ⟨ez5, fz5⟩ := p5
    have ez5 := ez5.symm
    have fz5 := fz5.symm
    subst ez5 fz5
    refine v_ifnull (n' := 11) (tgt := 15) h dX0_wouldBuild_8 rfl rfl (fun c8 => ?_) (fun a8 c8 => ?_)
    · refine v_aload_n (n' := 16) h dX0_wouldBuild_15 rfl rfl ?_
      refine v_get (n' := 19) (ci := 0) h rfl in_X0 0 (by decide) q188 rfl dX0_wouldBuild_16 rfl (by first | assumption | exact upH_s | exact (upH_n (by assumption)).trans (by assumption) | exact (upH_n (by assumption)).trans upH_s | exact (upH_n (by assumption)).trans ((upH_n (by assumption)).trans (by assumption))) (by rfl) ?_
      refine v_iload_n (n' := 20) h dX0_wouldBuild_19 rfl rfl ?_
      refine vc_callV (n' := 23) (ci := 1) h ((c_would de hp W t ad _ _ _ _ _ _ hTT hs (by omega) hab key c hk).d hde) rfl (by first | assumption | exact upH_s | exact (upH_n (by assumption)).trans (by assumption) | exact (upH_n (by assumption)).trans upH_s | exact (upH_n (by assumption)).trans ((upH_n (by assumption)).trans (by assumption))) (lw_V q793 q794 q795 q83 q796) hdX1_would ⟨by omega, by decide⟩ ⟨by omega, by omega⟩ (Nat.le_of_ble_eq_true rfl) dX0_wouldBuild_20 rfl (eI fun z20 hp20 p20 => ?_) rfl
      obtain ⟨ez20, F20⟩ := p20
      subst ez20
      refine v_iret h hq dX0_wouldBuild_23 (by omega) (by omega) (ret_i ?_)
      exact ⟨rfl, F20⟩
    · cases c8
theorem k_would (de : Nat) (hp : AH) (ax : Nat) (s : SS) (n : Int) (hC : CRel de hp ax s) (hi : SInv s n) (hn : n ≤ 64) (key : Int) (hk : -2147483648 ≤ key ∧ key ≤ 2147483647) : CtE de yX0_would cX0_would 2 (some .int) (rmK 53 6 132) [.ref ax, .int (iI key)] hp (rI (fun z hp' => z = oWould s key ∧ CRel de hp' ax s)) := by
  have hC2 := hC
  obtain ⟨W, A, t, kt, σ, ad, hH, hX⟩ := hC2
  have hr := x_r hX hi hn
  have hx := hH.1.1
  have ht := hH.2.2.1.1
  have e1 : σ.1 1 = sSh s := hX.1
  obtain ⟨hs, hz1, hB, hk1, hab, -⟩ := tr_all hi hn
  unfold oWould
  refine CtE.of (by decide) (EL.c1 rfl (EL.c1 rfl EL.n0)) (fun Γ h hq hnm hde => ?_)
  refine v_iload_n (n' := 1) h dX0_would_0 rfl rfl ?_
  refine v_iconst (n' := 2) h dX0_would_1 rfl ?_
  refine v_bipush (n' := 4) h dX0_would_2 rfl (by decide) ?_
  refine vc_callS (n' := 7) h ((c_in de hp key 0 99 hk (by omega) (by omega)).d hde) (lw_S q255 q256 q82 q257) hdX0_in ⟨by omega, by decide⟩ ⟨by omega, by omega⟩ (Nat.le_of_ble_eq_true rfl) dX0_would_4 rfl (eI fun z4 hp4 p4 => ?_) rfl
  obtain ⟨ez4, fz4⟩ := p4
  have ez4 := ez4.symm
  have fz4 := fz4.symm
  subst ez4 fz4
  refine v_bif_ne (n' := 10) (tgt := 13) h dX0_would_7 rfl rfl (fun c7 => ?_) (fun c7 => ?_)
  · refine v_aload_n (n' := 14) h dX0_would_13 rfl rfl ?_
    refine vc_callV (n' := 17) (ci := 0) h ((c_isShelf de hp ax A t kt σ hx (by omega)).d hde) rfl (by first | assumption | exact upH_s | exact (upH_n (by assumption)).trans (by assumption) | exact (upH_n (by assumption)).trans upH_s | exact (upH_n (by assumption)).trans ((upH_n (by assumption)).trans (by assumption))) (lw_V q684 q686 qs22 q82 q687) hdX0_isShelf ⟨by omega, by decide⟩ ⟨by omega, by omega⟩ (Nat.le_of_ble_eq_true rfl) dX0_would_14 rfl (eI fun z14 hp14 p14 => ?_) rfl
    obtain ⟨ez14, fz14⟩ := p14
    have ez14 := ez14.symm
    have fz14 := fz14.symm
    subst ez14 fz14
    refine v_bif_eq (n' := 20) (tgt := 32) h dX0_would_17 rfl rfl (fun c17 => ?_) (fun c17 => ?_)
    · refine v_bipush (n' := 34) h dX0_would_32 rfl (by decide) ?_
      refine v_goto (tgt := 42) h dX0_would_34 rfl ?_
      refine v_iret h hq dX0_would_42 (by omega) (by omega) (ret_i ?_)
      exact ⟨by rw [if_neg (by omega), if_pos (by omega)], hC⟩
    · refine v_aload_n (n' := 21) h dX0_would_20 rfl rfl ?_
      refine v_get (n' := 24) (ci := 0) h rfl in_X0 0 (by decide) q188 rfl dX0_would_21 rfl (by first | assumption | exact upH_s | exact (upH_n (by assumption)).trans (by assumption) | exact (upH_n (by assumption)).trans upH_s | exact (upH_n (by assumption)).trans ((upH_n (by assumption)).trans (by assumption))) (by rfl) ?_
      refine v_getN (n' := 27) (ci := 1) h rfl in_X1 4 (by decide) q127 rfl dX0_would_24 rfl (by first | assumption | exact upH_s | exact (upH_n (by assumption)).trans (by assumption) | exact (upH_n (by assumption)).trans upH_s | exact (upH_n (by assumption)).trans ((upH_n (by assumption)).trans (by assumption))) (by rfl) ?_
      refine v_bipush (n' := 29) h dX0_would_27 rfl (by decide) ?_
      refine v_icmp_ne (n' := 32) (tgt := 37) h dX0_would_29 rfl rfl (by omega) (by omega) (fun c29 => ?_) (fun c29 => ?_)
      · obtain ⟨kn, rfl⟩ : ∃ kn : Nat, key = (kn : Int) := ⟨key.toNat, by omega⟩
        refine v_aload_n (n' := 38) h dX0_would_37 rfl rfl ?_
        refine v_iload_n (n' := 39) h dX0_would_38 rfl rfl ?_
        refine vc_callV (n' := 42) (ci := 0) h ((c_wouldBuild de hp ax s n hC hi hn (by omega) (by omega) kn (by omega)).d hde) rfl (by first | assumption | exact upH_s | exact (upH_n (by assumption)).trans (by assumption) | exact (upH_n (by assumption)).trans upH_s | exact (upH_n (by assumption)).trans ((upH_n (by assumption)).trans (by assumption))) (lw_V q789 q791 qs26 q82 q792) hdX0_wouldBuild ⟨by omega, by decide⟩ ⟨by omega, by omega⟩ (Nat.le_of_ble_eq_true rfl) dX0_would_39 rfl (eI fun z39 hp39 p39 => ?_) rfl
        obtain ⟨ez39, F39⟩ := p39
        subst ez39
        refine v_iret h hq dX0_would_42 (by omega) (by omega) (ret_i ?_)
        exact ⟨by rw [if_neg (by omega), if_neg (by omega), Int.toNat_natCast], W, A, t, kt, σ, ad, hH.ext F39, hX⟩
      · refine v_bipush (n' := 34) h dX0_would_32 rfl (by decide) ?_
        refine v_goto (tgt := 42) h dX0_would_34 rfl ?_
        refine v_iret h hq dX0_would_42 (by omega) (by omega) (ret_i ?_)
        exact ⟨by rw [if_neg (by omega), if_pos (by omega)], hC⟩
  · refine v_bipush (n' := 12) h dX0_would_10 rfl (by decide) ?_
    refine v_iret h hq dX0_would_12 (by omega) (by omega) (ret_i ?_)
    rw [if_pos (by omega)]; exact ⟨rfl, hC⟩
