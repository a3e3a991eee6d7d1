/-! THE CLASS: restore -/
set_option maxRecDepth 100000
theorem k_restore (de : Nat) (hp : AH) (ax : Nat) (s : SS) (n : Int) (hC : CRel de hp ax s) (hi : SInv s n) (hn : n ≤ 64) : CtE de yX0_restore cX0_restore 2 (some .int) (rmK 52 41 170) [.ref ax] hp (rI (fun r hp' => r = (oRestore s).1 ∧ CRel de hp' ax (oRestore s).2)) := by
  have hC2 := hC
  obtain ⟨W, A, t, kt, σ, ad, hH, hX⟩ := hC2
  have hr := x_r hX hi hn
  have hx := hH.1.1
  have ht := hH.2.2.1.1
  have e1 : σ.1 1 = sSh s := hX.1
  have hkn : -1 ≤ sKn s ∧ sKn s ≤ sSh s := hi.2.2.2.2.2.2.1
  unfold oRestore
  refine CtE.of (by decide) (EL.c1 rfl (EL.nn EL.n0)) (fun Γ h hq hnm hde => ?_)
  rcases hH.2.2.2.2 with ⟨hkt, hk1⟩ | ⟨kk, hkt, hk13, hk3⟩
  · subst hkt
    rw [if_pos (by omega)] at hq
    refine v_aload_n (n' := 1) h dX0_restore_0 rfl rfl ?_
    refine v_get (n' := 4) (ci := 0) h rfl in_X0 12 (by decide) q202 rfl dX0_restore_1 rfl (by first | assumption | exact upH_s | exact (upH_n (by assumption)).trans (by assumption) | exact (upH_n (by assumption)).trans upH_s | exact (upH_n (by assumption)).trans ((upH_n (by assumption)).trans (by assumption))) (by rfl) ?_
    refine v_ifnull (n' := 7) (tgt := 18) h dX0_restore_4 rfl rfl (fun c4 => ?_) (fun a4 c4 => ?_)
    · refine v_bipush (n' := 20) h dX0_restore_18 rfl (by decide) ?_
      refine v_iret h hq dX0_restore_20 (by omega) (by omega) (ret_i ?_)
      exact ⟨rfl, hC⟩
    · cases c4
  · subst hkt
    by_cases hks : sKn s = sSh s
    · rw [if_neg (fun z => z hks)] at hq
      obtain ⟨adk, TK, KL, KS⟩ := hk3 hks
      obtain ⟨hsh, hSK⟩ := hi.2.2.2.2.2.1 hks
      have hs := hSK.1
      have hz1 : tz (sK s).1.1 ≤ 40 := hSK.2.2.1
      have htk := TK.1
      have loop : ∀ (z : Nat) (adz : Nat → Nat) (hp1 : AH) (σ1 : MS), CI de hp1 (Fsh hp) ax A z (some kk) σ1 adz (sK s).2.1 (sK s).2.2.1 (sA s) (sB s) (sF s) (sK s).1 kk adk (sK s).2.1 (sK s).2.2.1 (sK s).1 → σ1 = setI (setI σ 5 (σ.1 14)) 6 (σ.1 15) → V Γ 41 170 hp1 55 [some (.ref ax), none] [] := by
        intro z adz hp1 σ1 H1 es1
        have fin : ∀ (hp2 : AH) (σ3 : MS), CI de hp2 (Fsh hp) ax A z (some kk) σ3 adz (sK s).2.1 (sK s).2.2.1 (sA s) (sB s) (sF s) (sK s).1 kk adk (sK s).2.1 (sK s).2.2.1 (sK s).1 → σ3.1 = σ1.1 → (∀ f, f ≠ 4 → f ≠ 7 → f ≠ 8 → f ≠ 9 → σ3.2 f = σ.2 f) → (∀ i, 0 ≤ i → i < 60 → σ3.2 4 i = σ.2 16 i) → (∀ i, 0 ≤ i → i < 6 → σ3.2 7 i = σ.2 17 i ∧ σ3.2 8 i = σ.2 18 i ∧ σ3.2 9 i = σ.2 19 i) → (∀ i, σ3.2 9 i = 0 ∨ σ3.2 9 i = 1) → V Γ 41 170 hp2 131 [some (.ref ax), some (.int (iI 6))] [] := by
          intro hp2 σ3 H3 q1 q2 q3 q4 q5
          have hx3 := H3.1.1
          have ht3 := H3.2.2.1.1
          obtain ⟨x1, x2, x3, x4, x5, x6⟩ := hX
          refine v_aload_n (n' := 132) h dX0_restore_131 rfl rfl ?_
          refine v_get (n' := 135) (ci := 0) h rfl in_X0 0 (by decide) q188 rfl dX0_restore_132 rfl (by first | assumption | exact upH_s | exact (upH_n (by assumption)).trans (by assumption) | exact (upH_n (by assumption)).trans upH_s | exact (upH_n (by assumption)).trans ((upH_n (by assumption)).trans (by assumption))) (by rfl) ?_
          refine v_getN (n' := 138) (ci := 1) h rfl in_X1 4 (by decide) q127 rfl dX0_restore_135 rfl (by first | assumption | exact upH_s | exact (upH_n (by assumption)).trans (by assumption) | exact (upH_n (by assumption)).trans upH_s | exact (upH_n (by assumption)).trans ((upH_n (by assumption)).trans (by assumption))) (by rfl) ?_
          refine v_iret h hq dX0_restore_138 (by omega) (by omega) (ret_i ?_)
          refine ⟨rfl, Fsh hp, A, z, some kk, σ3, adz, ⟨H3.1, H3.2.1, H3.2.2.1, H3.2.2.2.1, Or.inr ⟨kk, rfl, ?_, fun _ => ⟨adk, H3.2.2.2.2, ?_, ?_⟩⟩⟩, ?_⟩
          · rw [q1, es1]; exact hk13
          · exact KL.cg (by rw [q1, es1]; rfl) (q2 16 (by decide) (by decide) (by decide) (by decide))
          · exact KS.cg (by rw [q1, es1]; rfl) (q2 17 (by decide) (by decide) (by decide) (by decide)) (q2 18 (by decide) (by decide) (by decide) (by decide)) (q2 19 (by decide) (by decide) (by decide) (by decide))
          · refine ⟨by rw [q1, es1]; exact x1, by rw [q1, es1]; exact x2, fun i a b => by rw [q2 2 (by decide) (by decide) (by decide) (by decide)]; exact x3 i a b, ⟨by rw [q1, es1]; exact KL.1, KL.2.1, fun i hi => ?_⟩, ⟨by rw [q1, es1]; exact KS.1, KS.2.1, fun i hi => ?_⟩, fun i => ⟨q5 i, by rw [q2 19 (by decide) (by decide) (by decide) (by decide)]; exact (x6 i).2⟩⟩
            · have hl : (sK s).2.2.2.1.length ≤ 60 := KL.2.1
              have hi : i < (sK s).2.2.2.1.length := hi
              rw [q3 i (by omega) (by omega)]
              exact KL.2.2 i hi
            · have hl : (sK s).2.2.2.2.length ≤ 6 := KS.2.1
              have hi : i < (sK s).2.2.2.2.length := hi
              obtain ⟨r1, r2, r3⟩ := q4 i (by omega) (by omega)
              rw [r1, r2, r3]
              exact KS.2.2 i hi
        have loop2 : ∀ (m j : Nat) (hp2 : AH) (σ3 : MS), j + m = 6 → CI de hp2 (Fsh hp) ax A z (some kk) σ3 adz (sK s).2.1 (sK s).2.2.1 (sA s) (sB s) (sF s) (sK s).1 kk adk (sK s).2.1 (sK s).2.2.1 (sK s).1 → σ3.1 = σ1.1 → (∀ f, f ≠ 4 → f ≠ 7 → f ≠ 8 → f ≠ 9 → σ3.2 f = σ.2 f) → (∀ i, 0 ≤ i → i < 60 → σ3.2 4 i = σ.2 16 i) → (∀ i : Int, 0 ≤ i → i < j → σ3.2 7 i = σ.2 17 i ∧ σ3.2 8 i = σ.2 18 i ∧ σ3.2 9 i = σ.2 19 i) → (∀ i, σ3.2 9 i = 0 ∨ σ3.2 9 i = 1) → V Γ 41 170 hp2 83 [some (.ref ax), some (.int (iI j))] [] := by
          intro m
          induction m with
          | zero =>
            intro j hp2 σ3 hj H3 q1 q2 q3 q4 q5
            obtain rfl : j = 6 := by omega
            refine v_iload_n (n' := 84) h dX0_restore_83 rfl rfl ?_
            refine v_bipush (n' := 86) h dX0_restore_84 rfl (by decide) ?_
            refine v_icmp_ge (n' := 89) (tgt := 131) h dX0_restore_86 rfl rfl (by omega) (by omega) (fun c86 => ?_) (fun c86 => ?_)
            · exact fin hp2 σ3 H3 q1 q2 q3 q4 q5
            · omega
          | succ m ih =>
            intro j hp2 σ3 hj H3 q1 q2 q3 q4 q5
            have hx3 := H3.1.1
            have a7 : hp2 (A 7) = some (aG 0 6 (σ3.2 7)) := (H3.1.2.2.1 7 (by decide)).1
            have a8 : hp2 (A 8) = some (aG 0 6 (σ3.2 8)) := (H3.1.2.2.1 8 (by decide)).1
            have a9 : hp2 (A 9) = some (aG 2 6 (σ3.2 9)) := (H3.1.2.2.1 9 (by decide)).1
            have a17 : hp2 (A 17) = some (aG 0 6 (σ3.2 17)) := (H3.1.2.2.1 17 (by decide)).1
            have a18 : hp2 (A 18) = some (aG 0 6 (σ3.2 18)) := (H3.1.2.2.1 18 (by decide)).1
            have a19 : hp2 (A 19) = some (aG 2 6 (σ3.2 19)) := (H3.1.2.2.1 19 (by decide)).1
            have ne : ∀ i j, xLen i ≠ 0 → xLen j ≠ 0 → i ≠ j → A i ≠ A j := fun i j hi hj hij z => hij (H3.1.2.2.2 i j hi hj z)
            have x7 : ax ≠ A 7 := (H3.1.na (by decide)).symm
            have x8 : ax ≠ A 8 := (H3.1.na (by decide)).symm
            have u1 : A 18 ≠ A 7 := ne 18 7 (by decide) (by decide) (by decide)
            have u2 : A 8 ≠ A 7 := ne 8 7 (by decide) (by decide) (by decide)
            have u3 : A 19 ≠ A 7 := ne 19 7 (by decide) (by decide) (by decide)
            have u4 : A 19 ≠ A 8 := ne 19 8 (by decide) (by decide) (by decide)
            have u5 : A 9 ≠ A 7 := ne 9 7 (by decide) (by decide) (by decide)
            have u6 : A 9 ≠ A 8 := ne 9 8 (by decide) (by decide) (by decide)
            have ej : ((j + 1 : Nat) : Int) = (j : Int) + 1 := by omega
            have e19 := q2 19 (by decide) (by decide) (by decide) (by decide)
            have nz : narrow .boolean (.int (iI (σ3.2 19 (j : Int)))) = .int (iI (σ3.2 19 (j : Int))) := by
              rw [e19]
              rcases (hX.2.2.2.2.2 (j : Int)).2 with q | q <;> rw [q] <;> decide
            refine v_iload_n (n' := 84) h dX0_restore_83 rfl rfl ?_
            refine v_bipush (n' := 86) h dX0_restore_84 rfl (by decide) ?_
            refine v_icmp_ge (n' := 89) (tgt := 131) h dX0_restore_86 rfl rfl (by omega) (by omega) (fun c86 => ?_) (fun c86 => ?_)
            · omega
            · refine v_aload_n (n' := 90) h dX0_restore_89 rfl rfl ?_
              refine v_get (n' := 93) (ci := 0) h rfl in_X0 7 (by decide) q197 rfl dX0_restore_90 rfl (by first | assumption | exact upH_s | exact (upH_n (by assumption)).trans (by assumption) | exact (upH_n (by assumption)).trans upH_s | exact (upH_n (by assumption)).trans ((upH_n (by assumption)).trans (by assumption))) (by rfl) ?_
              refine v_iload_n (n' := 94) h dX0_restore_93 rfl rfl ?_
              refine v_aload_n (n' := 95) h dX0_restore_94 rfl rfl ?_
              refine v_get (n' := 98) (ci := 0) h rfl in_X0 17 (by decide) q207 rfl dX0_restore_95 rfl (by first | assumption | exact upH_s | exact (upH_n (by assumption)).trans (by assumption) | exact (upH_n (by assumption)).trans upH_s | exact (upH_n (by assumption)).trans ((upH_n (by assumption)).trans (by assumption))) (by rfl) ?_
              refine v_iload_n (n' := 99) h dX0_restore_98 rfl rfl ?_
              refine v_giald (n' := 100) h dX0_restore_99 rfl (by first | assumption | exact upH_s | exact (upH_n (by assumption)).trans (by assumption) | exact (upH_n (by assumption)).trans upH_s | exact (upH_n (by assumption)).trans ((upH_n (by assumption)).trans (by assumption))) (by omega) (by omega) ?_
              refine v_giast (n' := 101) h dX0_restore_100 rfl (by first | assumption | exact upH_s | exact (upH_n (by assumption)).trans (by assumption) | exact (upH_n (by assumption)).trans upH_s | exact (upH_n (by assumption)).trans ((upH_n (by assumption)).trans (by assumption))) (by omega) (by omega) ?_
              refine v_aload_n (n' := 102) h dX0_restore_101 rfl rfl ?_
              refine v_get (n' := 105) (ci := 0) h rfl in_X0 8 (by decide) q198 rfl dX0_restore_102 rfl (by first | assumption | exact upH_s | exact (upH_n (by assumption)).trans (by assumption) | exact (upH_n (by assumption)).trans upH_s | exact (upH_n (by assumption)).trans ((upH_n (by assumption)).trans (by assumption))) (by rfl) ?_
              refine v_iload_n (n' := 106) h dX0_restore_105 rfl rfl ?_
              refine v_aload_n (n' := 107) h dX0_restore_106 rfl rfl ?_
              refine v_get (n' := 110) (ci := 0) h rfl in_X0 18 (by decide) q208 rfl dX0_restore_107 rfl (by first | assumption | exact upH_s | exact (upH_n (by assumption)).trans (by assumption) | exact (upH_n (by assumption)).trans upH_s | exact (upH_n (by assumption)).trans ((upH_n (by assumption)).trans (by assumption))) (by rfl) ?_
              refine v_iload_n (n' := 111) h dX0_restore_110 rfl rfl ?_
              refine v_giald (n' := 112) h dX0_restore_111 rfl (by first | assumption | exact upH_s | exact (upH_n (by assumption)).trans (by assumption) | exact (upH_n (by assumption)).trans upH_s | exact (upH_n (by assumption)).trans ((upH_n (by assumption)).trans (by assumption))) (by omega) (by omega) ?_
              refine v_giast (n' := 113) h dX0_restore_112 rfl (by first | assumption | exact upH_s | exact (upH_n (by assumption)).trans (by assumption) | exact (upH_n (by assumption)).trans upH_s | exact (upH_n (by assumption)).trans ((upH_n (by assumption)).trans (by assumption))) (by omega) (by omega) ?_
              refine v_aload_n (n' := 114) h dX0_restore_113 rfl rfl ?_
              refine v_get (n' := 117) (ci := 0) h rfl in_X0 9 (by decide) q199 rfl dX0_restore_114 rfl ((upH_n x8).trans ((upH_n x7).trans hx3)) (by rfl) ?_
              refine v_iload_n (n' := 118) h dX0_restore_117 rfl rfl ?_
              refine v_aload_n (n' := 119) h dX0_restore_118 rfl rfl ?_
              refine v_get (n' := 122) (ci := 0) h rfl in_X0 19 (by decide) q209 rfl dX0_restore_119 rfl ((upH_n x8).trans ((upH_n x7).trans hx3)) (by rfl) ?_
              refine v_iload_n (n' := 123) h dX0_restore_122 rfl rfl ?_
              refine v_gzald (n' := 124) h dX0_restore_123 rfl ((upH_n u4).trans ((upH_n u3).trans a19)) (by omega) (by omega) ?_
              refine v_gzast (n' := 125) h dX0_restore_124 rfl ((upH_n u6).trans ((upH_n u5).trans a9)) (by omega) (by omega) nz ?_
              refine v_iinc1 (n' := 128) h dX0_restore_125 rfl rfl ?_
              refine v_goto (tgt := 83) h dX0_restore_128 rfl ?_
              rw [← ej]
              refine ih (j + 1) _ _ (by omega) (((H3.wA (g := 7) (i := (j : Int)) (x := σ3.2 17 (j : Int)) (by decide)).wA (g := 8) (i := (j : Int)) (x := σ3.2 18 (j : Int)) (by decide)).wA (g := 9) (i := (j : Int)) (x := σ3.2 19 (j : Int)) (by decide)) q1 (fun f f4 f7 f8 f9 => ?_) (fun i i0 i1 => ?_) (fun i i0 i1 => ?_) (fun i => ?_)
              · funext i
                rw [setA_2o f9, setA_2o f8, setA_2o f7, q2 f f4 f7 f8 f9]
              · rw [setA_2o (by decide), setA_2o (by decide), setA_2o (by decide)]
                exact q3 i i0 i1
              · by_cases ci : i = (j : Int)
                · subst ci
                  refine ⟨?_, ?_, ?_⟩
                  · rw [setA_2o (by decide), setA_2o (by decide), setA_2s, q2 17 (by decide) (by decide) (by decide) (by decide)]
                  · rw [setA_2o (by decide), setA_2s, q2 18 (by decide) (by decide) (by decide) (by decide)]
                  · rw [setA_2s, e19]
                · rw [setA_2n ci, setA_2n ci, setA_2n ci, setA_2n ci, setA_2n ci, setA_2n ci, setA_2n ci, setA_2n ci, setA_2n ci]
                  exact q4 i i0 (by omega)
              · show (if 9 = 9 ∧ i = (j : Int) then σ3.2 19 (j : Int) else σ3.2 9 i) = 0 ∨ (if 9 = 9 ∧ i = (j : Int) then σ3.2 19 (j : Int) else σ3.2 9 i) = 1
                split
                · rw [e19]; exact (hX.2.2.2.2.2 (j : Int)).2
                · exact q5 i
        have loop1 : ∀ (m j : Nat) (hp2 : AH) (σ3 : MS), j + m = 60 → CI de hp2 (Fsh hp) ax A z (some kk) σ3 adz (sK s).2.1 (sK s).2.2.1 (sA s) (sB s) (sF s) (sK s).1 kk adk (sK s).2.1 (sK s).2.2.1 (sK s).1 → Cp1 16 4 σ1 σ3 (j : Int) → V Γ 41 170 hp2 57 [some (.ref ax), some (.int (iI j))] [] := by
          intro m
          induction m with
          | zero =>
            intro j hp2 σ3 hj H3 q
            obtain rfl : j = 60 := by omega
            refine v_iload_n (n' := 58) h dX0_restore_57 rfl rfl ?_
            refine v_bipush (n' := 60) h dX0_restore_58 rfl (by decide) ?_
            refine v_icmp_ge (n' := 63) (tgt := 81) h dX0_restore_60 rfl rfl (by omega) (by omega) (fun c60 => ?_) (fun c60 => ?_)
            · refine v_iconst (n' := 82) h dX0_restore_81 rfl ?_
              refine v_istore1 (n' := 83) h dX0_restore_82 rfl rfl ?_
              exact loop2 6 0 hp2 σ3 (by omega) H3 q.1 (fun f f4 _ _ _ => by rw [q.2.1 f f4, es1]; rfl) (fun i i0 i1 => by rw [q.2.2 i i0 (by omega), es1]; rfl) (fun i i0 i1 => by omega) (fun i => by rw [q.2.1 9 (by decide), es1]; exact (hX.2.2.2.2.2 i).1)
            · omega
          | succ m ih =>
            intro j hp2 σ3 hj H3 q
            have hx3 := H3.1.1
            have a4 : hp2 (A 4) = some (aG 0 60 (σ3.2 4)) := (H3.1.2.2.1 4 (by decide)).1
            have a16 : hp2 (A 16) = some (aG 0 60 (σ3.2 16)) := (H3.1.2.2.1 16 (by decide)).1
            have ej : ((j + 1 : Nat) : Int) = (j : Int) + 1 := by omega
            refine v_iload_n (n' := 58) h dX0_restore_57 rfl rfl ?_
            refine v_bipush (n' := 60) h dX0_restore_58 rfl (by decide) ?_
            refine v_icmp_ge (n' := 63) (tgt := 81) h dX0_restore_60 rfl rfl (by omega) (by omega) (fun c60 => ?_) (fun c60 => ?_)
            · omega
            · refine v_aload_n (n' := 64) h dX0_restore_63 rfl rfl ?_
              refine v_get (n' := 67) (ci := 0) h rfl in_X0 4 (by decide) q194 rfl dX0_restore_64 rfl (by first | assumption | exact upH_s | exact (upH_n (by assumption)).trans (by assumption) | exact (upH_n (by assumption)).trans upH_s | exact (upH_n (by assumption)).trans ((upH_n (by assumption)).trans (by assumption))) (by rfl) ?_
              refine v_iload_n (n' := 68) h dX0_restore_67 rfl rfl ?_
              refine v_aload_n (n' := 69) h dX0_restore_68 rfl rfl ?_
              refine v_get (n' := 72) (ci := 0) h rfl in_X0 16 (by decide) q206 rfl dX0_restore_69 rfl (by first | assumption | exact upH_s | exact (upH_n (by assumption)).trans (by assumption) | exact (upH_n (by assumption)).trans upH_s | exact (upH_n (by assumption)).trans ((upH_n (by assumption)).trans (by assumption))) (by rfl) ?_
              refine v_iload_n (n' := 73) h dX0_restore_72 rfl rfl ?_
              refine v_giald (n' := 74) h dX0_restore_73 rfl (by first | assumption | exact upH_s | exact (upH_n (by assumption)).trans (by assumption) | exact (upH_n (by assumption)).trans upH_s | exact (upH_n (by assumption)).trans ((upH_n (by assumption)).trans (by assumption))) (by omega) (by omega) ?_
              refine v_giast (n' := 75) h dX0_restore_74 rfl (by first | assumption | exact upH_s | exact (upH_n (by assumption)).trans (by assumption) | exact (upH_n (by assumption)).trans upH_s | exact (upH_n (by assumption)).trans ((upH_n (by assumption)).trans (by assumption))) (by omega) (by omega) ?_
              refine v_iinc1 (n' := 78) h dX0_restore_75 rfl rfl ?_
              refine v_goto (tgt := 57) h dX0_restore_78 rfl ?_
              rw [← ej]
              refine ih (j + 1) _ _ (by omega) (H3.wA (g := 4) (i := (j : Int)) (x := σ3.2 16 (j : Int)) (by decide)) ?_
              rw [ej]
              exact q.step (by decide)
        refine v_iconst (n' := 56) h dX0_restore_55 rfl ?_
        refine v_istore1 (n' := 57) h dX0_restore_56 rfl rfl ?_
        exact loop1 60 0 hp1 σ1 (by omega) H1 ⟨rfl, fun _ _ => rfl, fun i i0 i1 => by omega⟩
      refine v_aload_n (n' := 1) h dX0_restore_0 rfl rfl ?_
      refine v_get (n' := 4) (ci := 0) h rfl in_X0 12 (by decide) q202 rfl dX0_restore_1 rfl (by first | assumption | exact upH_s | exact (upH_n (by assumption)).trans (by assumption) | exact (upH_n (by assumption)).trans upH_s | exact (upH_n (by assumption)).trans ((upH_n (by assumption)).trans (by assumption))) (by rfl) ?_
      refine v_ifnull (n' := 7) (tgt := 18) h dX0_restore_4 rfl rfl (fun c4 => ?_) (fun a4 c4 => ?_)
      · cases c4
      · refine v_aload_n (n' := 8) h dX0_restore_7 rfl rfl ?_
        refine v_get (n' := 11) (ci := 0) h rfl in_X0 13 (by decide) q203 rfl dX0_restore_8 rfl (by first | assumption | exact upH_s | exact (upH_n (by assumption)).trans (by assumption) | exact (upH_n (by assumption)).trans upH_s | exact (upH_n (by assumption)).trans ((upH_n (by assumption)).trans (by assumption))) (by rfl) ?_
        refine v_aload_n (n' := 12) h dX0_restore_11 rfl rfl ?_
        refine v_get (n' := 15) (ci := 0) h rfl in_X0 1 (by decide) q189 rfl dX0_restore_12 rfl (by first | assumption | exact upH_s | exact (upH_n (by assumption)).trans (by assumption) | exact (upH_n (by assumption)).trans upH_s | exact (upH_n (by assumption)).trans ((upH_n (by assumption)).trans (by assumption))) (by rfl) ?_
        refine v_icmp_eq (n' := 18) (tgt := 21) h dX0_restore_15 rfl rfl (by omega) (by omega) (fun c15 => ?_) (fun c15 => ?_)
        · refine v_aload_n (n' := 22) h dX0_restore_21 rfl rfl ?_
          refine v_new (n' := 25) (ci := 1) h rfl in_X1 tyX1 tyX1_ok q112 q113 q83 (fs := dvX1) dvX1_ok dX0_restore_22 rfl (rmC (by omega)) (rmS (by omega)) (fun a22 n22 => ?_)
          refine v_dup (n' := 26) h dX0_restore_25 rfl rfl ?_
          refine vc_callIN (n' := 29) h ((c_tinit de _ a22).d hde) q116 q83 q114 q115 rfl hdX1_init ⟨by omega, by decide⟩ ⟨by omega, by omega⟩ (Nat.le_of_ble_eq_true rfl) dX0_restore_26 rfl (eV fun hp26 p26 => ?_) rfl
          have p26 := p26.symm
          subst p26
          have nx : ax ≠ a22 := free_ne hx n22
          have nk : kk ≠ a22 := free_ne htk n22
          have F0 : Frm (Fsh hp) hp (upH hp a22 (.inr (1, dvX1))) := Frm.up n22
          have T0 := TK.keep (hp' := upH hp a22 (.inr (1, dvX1))) (fun q c h1 _ => F0.ex h1)
          refine v_aload_n (n' := 30) h dX0_restore_29 rfl rfl ?_
          refine v_get (n' := 33) (ci := 0) h rfl in_X0 12 (by decide) q202 rfl dX0_restore_30 rfl (by first | assumption | exact upH_s | exact (upH_n (by assumption)).trans (by assumption) | exact (upH_n (by assumption)).trans upH_s | exact (upH_n (by assumption)).trans ((upH_n (by assumption)).trans (by assumption))) (by rfl) ?_
          refine vc_callV (n' := 36) (ci := 1) h ((c_like de _ (fun q => ¬ W q) kk adk _ _ _ _ _ _ T0 hs hz1 a22 upH_s nk).d hde) rfl (by first | assumption | exact upH_s | exact (upH_n (by assumption)).trans (by assumption) | exact (upH_n (by assumption)).trans upH_s | exact (upH_n (by assumption)).trans ((upH_n (by assumption)).trans (by assumption))) (lw_V q824 q825 q826 q83 q827) hdX1_like ⟨by omega, by decide⟩ ⟨by omega, by omega⟩ (Nat.le_of_ble_eq_true rfl) dX0_restore_33 rfl (eR fun z33 hp33 p33 => ?_) rfl
          obtain ⟨ez33, F33, adz, T33⟩ := p33
          subst ez33
          have hw : ∀ q, (Fsh (upH hp z33 (.inr (1, dvX1))) q ∨ q = z33) → Fsh hp q := by
            intro q hq
            rcases hq with hq | hq
            · by_cases c : q = z33
              · rw [c]; exact n22
              · have hq : upH hp z33 (.inr (1, dvX1)) q = none := hq
                rw [upH_n c] at hq
                exact hq
            · rw [hq]; exact n22
          have FF := F0.tr (F33.wk hw)
          have hx33 := FF.ex hx
          have X33 : XR hp33 (Fsh hp) ax A t (some kk) σ := ⟨hx33, Fsh.no hx, fun i hi => ⟨FF.ex (hH.1.2.2.1 i hi).1, Fsh.no (hH.1.2.2.1 i hi).1⟩, hH.1.2.2.2⟩
          have S33 : Sm de hp33 (Fsh hp) (A 10) := by
            obtain ⟨xs, ⟨arr, k1, k2, k3⟩, k4, k5⟩ := hH.2.2.2.1
            exact ⟨xs, ⟨arr, FF.ex k1, Fsh.no k1, k3.imp id (fun q => ⟨q.1, Fsh.no q.2.2, FF.ex q.2.2⟩)⟩, k4, fun i y hy => ⟨FF.ex (k5 i y hy).1, Fsh.no (k5 i y hy).1⟩⟩
          have K33 : TT hp33 (fun q => ¬ Fsh hp q) kk adk (sK s).2.1 (sK s).2.2.1 (sA s) (sB s) (sF s) (sK s).1 := by
            refine ⟨FF.ex htk, Fsh.no htk, TK.2.2.cg (fun x hx => ?_)⟩
            obtain ⟨_, _, q1, _⟩ := TK.2.2.at hx
            exact ⟨rfl, rfl, rfl, (FF.ex q1).trans q1.symm, fun _ => Fsh.no q1⟩
          have C33 : C4 de hp33 (Fsh hp) A z33 adz (sK s).2.1 (sK s).2.2.1 (sA s) (sB s) (sF s) (sK s).1 kk adk (sK s).2.1 (sK s).2.2.1 (sK s).1 := ⟨FF.fre Fre.sh, T33.wk hw, S33, K33⟩
          refine v_put (n' := 39) (ci := 0) h rfl in_X0 tyX0 tyX0_ok nmX0 0 (by decide) q188 rfl rfl dX0_restore_36 rfl (by first | assumption | exact upH_s | exact (upH_n (by assumption)).trans (by assumption) | exact (upH_n (by assumption)).trans upH_s | exact (upH_n (by assumption)).trans ((upH_n (by assumption)).trans (by assumption))) (by show 0 < 20; decide) rfl rfl ?_
          refine v_aload_n (n' := 40) h dX0_restore_39 rfl rfl ?_
          refine v_aload_n (n' := 41) h dX0_restore_40 rfl rfl ?_
          refine v_get (n' := 44) (ci := 0) h rfl in_X0 14 (by decide) q204 rfl dX0_restore_41 rfl (by first | assumption | exact upH_s | exact (upH_n (by assumption)).trans (by assumption) | exact (upH_n (by assumption)).trans upH_s | exact (upH_n (by assumption)).trans ((upH_n (by assumption)).trans (by assumption))) (by rfl) ?_
          refine v_put (n' := 47) (ci := 0) h rfl in_X0 tyX0 tyX0_ok nmX0 5 (by decide) q195 rfl rfl dX0_restore_44 rfl (by first | assumption | exact upH_s | exact (upH_n (by assumption)).trans (by assumption) | exact (upH_n (by assumption)).trans upH_s | exact (upH_n (by assumption)).trans ((upH_n (by assumption)).trans (by assumption))) (by show 5 < 20; decide) rfl rfl ?_
          rw [upH_up]
          refine v_aload_n (n' := 48) h dX0_restore_47 rfl rfl ?_
          refine v_aload_n (n' := 49) h dX0_restore_48 rfl rfl ?_
          refine v_get (n' := 52) (ci := 0) h rfl in_X0 15 (by decide) q205 rfl dX0_restore_49 rfl (by first | assumption | exact upH_s | exact (upH_n (by assumption)).trans (by assumption) | exact (upH_n (by assumption)).trans upH_s | exact (upH_n (by assumption)).trans ((upH_n (by assumption)).trans (by assumption))) (by rfl) ?_
          refine v_put (n' := 55) (ci := 0) h rfl in_X0 tyX0 tyX0_ok nmX0 6 (by decide) q196 rfl rfl dX0_restore_52 rfl (by first | assumption | exact upH_s | exact (upH_n (by assumption)).trans (by assumption) | exact (upH_n (by assumption)).trans upH_s | exact (upH_n (by assumption)).trans ((upH_n (by assumption)).trans (by assumption))) (by show 6 < 20; decide) rfl rfl ?_
          rw [upH_up]
          exact loop z33 adz _ _ (C33.wT X33 (kt' := some kk) (σ' := setI (setI σ 5 (σ.1 14)) 6 (σ.1 15)) rfl) rfl
        · omega
    · rw [if_pos hks] at hq
      refine v_aload_n (n' := 1) h dX0_restore_0 rfl rfl ?_
      refine v_get (n' := 4) (ci := 0) h rfl in_X0 12 (by decide) q202 rfl dX0_restore_1 rfl (by first | assumption | exact upH_s | exact (upH_n (by assumption)).trans (by assumption) | exact (upH_n (by assumption)).trans upH_s | exact (upH_n (by assumption)).trans ((upH_n (by assumption)).trans (by assumption))) (by rfl) ?_
      refine v_ifnull (n' := 7) (tgt := 18) h dX0_restore_4 rfl rfl (fun c4 => ?_) (fun a4 c4 => ?_)
      · cases c4
      · refine v_aload_n (n' := 8) h dX0_restore_7 rfl rfl ?_
        refine v_get (n' := 11) (ci := 0) h rfl in_X0 13 (by decide) q203 rfl dX0_restore_8 rfl (by first | assumption | exact upH_s | exact (upH_n (by assumption)).trans (by assumption) | exact (upH_n (by assumption)).trans upH_s | exact (upH_n (by assumption)).trans ((upH_n (by assumption)).trans (by assumption))) (by rfl) ?_
        refine v_aload_n (n' := 12) h dX0_restore_11 rfl rfl ?_
        refine v_get (n' := 15) (ci := 0) h rfl in_X0 1 (by decide) q189 rfl dX0_restore_12 rfl (by first | assumption | exact upH_s | exact (upH_n (by assumption)).trans (by assumption) | exact (upH_n (by assumption)).trans upH_s | exact (upH_n (by assumption)).trans ((upH_n (by assumption)).trans (by assumption))) (by rfl) ?_
        refine v_icmp_eq (n' := 18) (tgt := 21) h dX0_restore_15 rfl rfl (by omega) (by omega) (fun c15 => ?_) (fun c15 => ?_)
        · omega
        · refine v_bipush (n' := 20) h dX0_restore_18 rfl (by decide) ?_
          refine v_iret h hq dX0_restore_20 (by omega) (by omega) (ret_i ?_)
          exact ⟨rfl, hC⟩
