/-! THE CLASS: drawn -/
set_option maxRecDepth 100000
theorem CH.wD {de : Nat} {hp : AH} {W : Nat → Prop} {ax : Nat} {A : Nat → Nat} {t : Nat} {kt : Option Nat} {σ : MS} {ad : Nat → Nat} {s : SS} (h : CH de hp W ax A t kt σ ad s) (hX : XS σ s) (v : Int) : CH de (upH hp ax (xO A t kt (setI σ 11 v))) W ax A t kt (setI σ 11 v) ad s ∧ XS (setI σ 11 v) s := by
  refine ⟨h.wI (by decide), ?_⟩
  obtain ⟨x1, x2, x3, x4, x5, x6⟩ := hX
  exact ⟨x1, x2, x3, x4.cg rfl rfl, x5.cg rfl rfl rfl rfl, x6⟩
theorem c_draw (de : Nat) (hp : AH) (W : Nat → Prop) (ax : Nat) (A : Nat → Nat) (t : Nat) (kt : Option Nat) (σ : MS) (ad : Nat → Nat) (s : SS) (hH : CH de hp W ax A t kt σ ad s) (hX : XS σ s) (hd : 0 ≤ σ.1 11 ∧ σ.1 11 < 2147483648) : CtE de yX0_draw cX0_draw 2 (some .int) (rmK 1 0 0) [.ref ax, .int (iI 100)] hp (rI (fun z hp' => z = rnd (σ.1 11) / 65536 % 100 ∧ hp' = upH hp ax (xO A t kt (setI σ 11 (rnd (σ.1 11)))))) := by
  have hx := hH.1.1
  have hr := rnd_r (σ.1 11)
  refine CtE.of (by decide) (EL.c1 rfl (EL.c1 rfl EL.n0)) (fun Γ h hq hnm hde => ?_)
  refine v_aload_n (n' := 1) h dX0_draw_0 rfl rfl ?_
  refine v_ldc2 (n' := 4) (z := 1103515245) h dX0_draw_1 rfl q893 (by decide) ?_
  refine v_aload_n (n' := 5) h dX0_draw_4 rfl rfl ?_
  refine v_get (n' := 8) (ci := 0) h rfl in_X0 11 (by decide) q201 rfl dX0_draw_5 rfl (by first | assumption | exact upH_s | exact (upH_n (by assumption)).trans (by assumption) | exact (upH_n (by assumption)).trans upH_s | exact (upH_n (by assumption)).trans ((upH_n (by assumption)).trans (by assumption))) (by rfl) ?_
  refine v_lmul (n' := 9) h dX0_draw_8 rfl ?_
  refine v_ldc2 (n' := 12) (z := 12345) h dX0_draw_9 rfl q894 (by decide) ?_
  refine v_ladd (n' := 13) h dX0_draw_12 rfl ?_
  refine v_ldc2 (n' := 16) (z := 2147483647) h dX0_draw_13 rfl q895 (by decide) ?_
  refine v_land (n' := 17) h dX0_draw_16 rfl (land31 (by omega)) ?_
  rw [show (1103515245 * σ.1 11 + 12345) % 2147483648 = rnd (σ.1 11) from rfl]
  refine v_put (n' := 20) (ci := 0) h rfl in_X0 tyX0 tyX0_ok nmX0 11 (by decide) q201 rfl rfl dX0_draw_17 rfl (by first | assumption | exact upH_s | exact (upH_n (by assumption)).trans (by assumption) | exact (upH_n (by assumption)).trans upH_s | exact (upH_n (by assumption)).trans ((upH_n (by assumption)).trans (by assumption))) (by show 11 < 20; decide) rfl rfl ?_
  refine v_aload_n (n' := 21) h dX0_draw_20 rfl rfl ?_
  refine v_get (n' := 24) (ci := 0) h rfl in_X0 11 (by decide) q201 rfl dX0_draw_21 rfl (by first | assumption | exact upH_s | exact (upH_n (by assumption)).trans (by assumption) | exact (upH_n (by assumption)).trans upH_s | exact (upH_n (by assumption)).trans ((upH_n (by assumption)).trans (by assumption))) (by rfl) ?_
  refine v_ldc2 (n' := 27) (z := 65536) h dX0_draw_24 rfl q896 (by decide) ?_
  refine v_ldiv (n' := 28) h dX0_draw_27 rfl (by omega) (by omega) ?_
  refine v_iload_n (n' := 29) h dX0_draw_28 rfl rfl ?_
  refine v_i2l (n' := 30) h dX0_draw_29 rfl (by omega) ?_
  refine v_lrem (n' := 31) h dX0_draw_30 rfl (by omega) (by omega) ?_
  refine v_l2i (n' := 32) h dX0_draw_31 rfl ?_
  refine v_iret h hq dX0_draw_32 (by omega) (by omega) (ret_i ?_)
  exact ⟨rfl, rfl⟩
theorem c_drawnTold (de : Nat) (hp : AH) (ax : Nat) (s : SS) (n : Int) (hC : CRel de hp ax s) (hi : SInv s n) (hn : n ≤ 64) (hsh : sSh s ≠ 0) (times : Nat) (htm : times ≤ 60) (seed what : Int) (hsd : 0 ≤ seed ∧ seed ≤ 2147483647) (hw : 0 ≤ what ∧ what ≤ 2) : CtE de yX0_drawnTold cX0_drawnTold 8 (some .int) (rmK 63 821 16250) [.ref ax, .int (iI times), .int (iI seed), .int (iI what)] hp (rI (fun z hp' => z = drawnV (drF (sA s) (sB s) (sF s) times (seed, ((sC s).1.1, (sC s).1.2.1, 0, 0, (0, 0)))) what ∧ CRel de hp' ax s)) := by
  obtain ⟨W, A, t, kt, σ, ad, hH, hX⟩ := hC
  have hx := hH.1.1
  have hTT := hH.2.2.1
  have ht := hTT.1
  obtain ⟨hs, hz1, hB, hk1, hab, -⟩ := tr_all hi hn
  obtain ⟨hab, hfee⟩ := hab hsh
  have nxt' : ax ≠ t := cell_ne hx ht (fun z => by have := congrArg Prod.fst (Sum.inr.inj z); simp at this)
  have hcr : ∀ (hp' : AH) (v : Int), hp' ax = some (xO A t kt (setI σ 11 v)) → (∀ q, hp q ≠ none → q ≠ ax → hp' q = hp q) → CH de hp' W ax A t kt (setI σ 11 v) ad s ∧ XS (setI σ 11 v) s := by
    intro hp' v e1 e2
    obtain ⟨q1, q2⟩ := hH.wD hX v
    refine ⟨q1.ext (fun q hq => ?_), q2⟩
    by_cases c : q = ax
    · rw [c, e1, upH_s]
    · have hq : upH hp ax (xO A t kt (setI σ 11 v)) q ≠ none := hq
      rw [upH_n c] at hq ⊢
      exact e2 q hq c
  have hco : 0 ≤ (sC s).1.2.2.2.1 ∧ (sC s).1.2.2.2.1 ≤ 256000 := hB.2.2.1
  generalize hP0 : ((sC s).1.1, (sC s).1.2.1, (0 : Int), (0 : Int), ((0 : Int), (0 : Int))) = te00
  have hsim0 : Sim (sC s).1.2.2.2.1 te00 (sC s).1 := by rw [← hP0]; exact ⟨rfl, rfl, by dsimp only; omega⟩
  refine CtE.of (by decide) (EL.c1 rfl (EL.c1 rfl (EL.c1 rfl (EL.c1 rfl (EL.nn (EL.nn (EL.nn (EL.nn EL.n0)))))))) (fun Γ h hq hnm hde => ?_)
  have loop : ∀ (m j : Nat) (hp1 : AH) (t2 : Nat) (ad1 : Nat → Nat) (K1 U1 : Nat → Int) (p : Int × Tre) (te : Tre) (v7 : Option Value), j + m = times → (0 ≤ p.1 ∧ p.1 < 2147483648) → drF (sA s) (sB s) (sF s) m p = drF (sA s) (sB s) (sF s) times (seed, te00) → Sim (sC s).1.2.2.2.1 p.2 te → hp1 ax = some (xO A t kt (setI σ 11 p.1)) → (∀ q, hp q ≠ none → q ≠ ax → hp1 q = hp q) → TT hp1 (Fsh hp) t2 ad1 K1 U1 (sA s) (sB s) (sF s) te → Srt te.1 → tz te.1 ≤ 40 → TeB te (256000 + 450 * (j : Int)) → V Γ (41 + 13 * j) (170 + 268 * j) hp1 32 [some (.ref ax), some (.int (iI times)), some (.int (iI seed)), some (.int (iI what)), some (.ref t2), some (.int (iI (sC s).1.2.2.2.1)), some (.int (iI j)), v7] [] := by
    intro m
    induction m with
    | zero =>
      intro j hp1 t2 ad1 K1 U1 p te v7 hj hp1r e1 sm hx1 F1 T1 S1 z1 B1
      have ht2 := T1.1
      have e1 : p = drF (sA s) (sB s) (sF s) times (seed, te00) := e1
      obtain ⟨C1, X1⟩ := hcr hp1 p.1 hx1 F1
      have hfin : CRel de hp1 ax s := ⟨W, A, t, kt, _, ad, C1, X1⟩
      refine v_iload (n' := 34) h dX0_drawnTold_32 rfl rfl ?_
      refine v_iload_n (n' := 35) h dX0_drawnTold_34 rfl rfl ?_
      refine v_icmp_ge (n' := 38) (tgt := 96) h dX0_drawnTold_35 rfl rfl (by omega) (by omega) (fun c35 => ?_) (fun c35 => ?_)
      · refine v_iload_n (n' := 97) h dX0_drawnTold_96 rfl rfl ?_
        refine v_if_ne (n' := 100) (tgt := 111) h dX0_drawnTold_97 rfl rfl (by omega) (fun c97 => ?_) (fun c97 => ?_)
        · refine v_iload_n (n' := 112) h dX0_drawnTold_111 rfl rfl ?_
          refine v_iconst (n' := 113) h dX0_drawnTold_112 rfl ?_
          refine v_icmp_ne (n' := 116) (tgt := 127) h dX0_drawnTold_113 rfl rfl (by omega) (by omega) (fun c113 => ?_) (fun c113 => ?_)
          · refine v_aload_n (n' := 128) h dX0_drawnTold_127 rfl rfl ?_
            refine v_get (n' := 131) (ci := 0) h rfl in_X0 11 (by decide) q201 rfl dX0_drawnTold_128 rfl (by first | assumption | exact upH_s | exact (upH_n (by assumption)).trans (by assumption) | exact (upH_n (by assumption)).trans upH_s | exact (upH_n (by assumption)).trans ((upH_n (by assumption)).trans (by assumption))) (by rfl) ?_
            refine v_l2i (n' := 132) h dX0_drawnTold_131 rfl ?_
            refine v_iret h hq dX0_drawnTold_132 (by omega) (by omega) (ret_i ?_)
            exact ⟨by rw [← e1]; unfold drawnV; rw [if_neg (by omega), if_neg (by omega)]; rfl, hfin⟩
          · refine v_aload (n' := 118) h dX0_drawnTold_116 rfl rfl ?_
            refine v_getN (n' := 121) (ci := 1) h rfl in_X1 0 (by decide) q119 rfl dX0_drawnTold_118 rfl (by first | assumption | exact upH_s | exact (upH_n (by assumption)).trans (by assumption) | exact (upH_n (by assumption)).trans upH_s | exact (upH_n (by assumption)).trans ((upH_n (by assumption)).trans (by assumption))) (by rfl) ?_
            refine vc_callS (n' := 124) h ((c_tallOf de hp1 (Fsh hp) ad1 _ _ _ T1.2.2 40 (by omega) (by omega)).d hde) (lw_S q779 q780 q82 q781) hdX0_tallOf ⟨by omega, by decide⟩ ⟨by omega, by omega⟩ (Nat.le_of_ble_eq_true rfl) dX0_drawnTold_121 rfl (eI fun z121 hp121 p121 => ?_) rfl
            obtain ⟨ez121, fz121⟩ := p121
            have ez121 := ez121.symm
            have fz121 := fz121.symm
            subst ez121 fz121
            refine v_goto (tgt := 132) h dX0_drawnTold_124 rfl ?_
            refine v_iret h hq dX0_drawnTold_132 (by omega) (by omega) (ret_i ?_)
            exact ⟨by rw [← e1]; unfold drawnV; rw [if_neg (by omega), if_pos (by omega), sm.1], hfin⟩
        · refine v_aload (n' := 102) h dX0_drawnTold_100 rfl rfl ?_
          refine v_getN (n' := 105) (ci := 1) h rfl in_X1 9 (by decide) q137 rfl dX0_drawnTold_102 rfl (by first | assumption | exact upH_s | exact (upH_n (by assumption)).trans (by assumption) | exact (upH_n (by assumption)).trans upH_s | exact (upH_n (by assumption)).trans ((upH_n (by assumption)).trans (by assumption))) (by rfl) ?_
          refine v_iload (n' := 107) h dX0_drawnTold_105 rfl rfl ?_
          refine v_isub (n' := 108) h dX0_drawnTold_107 rfl ?_
          refine v_goto (tgt := 132) h dX0_drawnTold_108 rfl ?_
          refine v_iret h hq dX0_drawnTold_132 (by omega) (by omega) (ret_i ?_)
          exact ⟨by rw [← e1]; unfold drawnV; rw [if_pos (by omega)]; have := sm.2.2; omega, hfin⟩
      · omega
    | succ m ih =>
      intro j hp1 t2 ad1 K1 U1 p te v7 hj hp1r e1 sm hx1 F1 T1 S1 z1 B1
      obtain ⟨C1, X1⟩ := hcr hp1 p.1 hx1 F1
      have hr := rnd_r p.1
      generalize hKK : (rnd p.1 / 65536 % 100).toNat = kk
      have hkk : kk < 100 := by omega
      have ekk : rnd p.1 / 65536 % 100 = (kk : Int) := by omega
      have est : drStep (sA s) (sB s) (sF s) p = (rnd p.1, if kk ∈ tl p.2.1 then teLeave (sA s) (sB s) (sF s) p.2 kk else if tz p.2.1 < 40 then teEnter (sA s) (sB s) (sF s) p.2 kk else p.2) := by unfold drStep; rw [hKK]
      have e1 : drF (sA s) (sB s) (sF s) m (drStep (sA s) (sB s) (sF s) p) = drF (sA s) (sB s) (sF s) times (seed, te00) := e1
      have ej : ((j + 1 : Nat) : Int) = (j : Int) + 1 := by omega
      have hax0 : hp ax ≠ none := by rw [hx]; exact fun z => by cases z
      have keepx : ∀ (hq : AH) (e : va_E) (q : Nat) (c : va_E), hq q = some c → Fsh hp q → upH hq ax e q = some c := fun hq e q c h1 h2 => (upH_n (fun z => hax0 (by rw [← z]; exact h2))).trans h1
      have c41 := c_draw de hp1 W ax A t kt _ ad s C1 X1 (by rw [setI_1s]; exact hp1r)
      rw [setI_1s, ekk] at c41
      have T2 := T1.keep (keepx hp1 (xO A t kt (setI σ 11 (rnd p.1))))
      have e41 : xO A t kt (setI (setI σ 11 p.1) 11 (rnd p.1)) = xO A t kt (setI σ 11 (rnd p.1)) := rfl
      rw [e41] at c41
      have ht21 := T1.1
      have hx2 : upH hp1 ax (xO A t kt (setI σ 11 (rnd p.1))) ax = some (xO A t kt (setI σ 11 (rnd p.1))) := upH_s
      have F2 : ∀ q, hp q ≠ none → q ≠ ax → upH hp1 ax (xO A t kt (setI σ 11 (rnd p.1))) q = hp q := fun q h1 h2 => (upH_n h2).trans (F1 q h1 h2)
      generalize hH2 : upH hp1 ax (xO A t kt (setI σ 11 (rnd p.1))) = hp2 at T2 hx2 F2 c41
      have ht2 := T2.1
      have Fr2 : Fre (Fsh hp) hp2 := fun q hq => by
        apply Classical.byContradiction
        intro c
        have c : hp q ≠ none := c
        by_cases ca : q = ax
        · rw [ca, hx2] at hq; cases hq
        · rw [F2 q c ca] at hq; exact c hq
      have nxt3 : ∀ (hp3 : AH) (ad3 : Nat → Nat) (K3 U3 : Nat → Int) (te3 : Tre) (k4 n4 : Nat), k4 ≤ 41 + 13 * (j + 1) → n4 ≤ 170 + 268 * (j + 1) → Frm (Fsh hp) hp2 hp3 → TT hp3 (Fsh hp) t2 ad3 K3 U3 (sA s) (sB s) (sF s) te3 → Srt te3.1 → tz te3.1 ≤ 40 → TeB te3 (256000 + 450 * (j : Int) + 450) → Sim (sC s).1.2.2.2.1 (drStep (sA s) (sB s) (sF s) p).2 te3 → V Γ k4 n4 hp3 32 [some (.ref ax), some (.int (iI times)), some (.int (iI seed)), some (.int (iI what)), some (.ref t2), some (.int (iI (sC s).1.2.2.2.1)), some (.int (iI ((j : Int) + 1))), some (.int (iI kk))] [] := by
        intro hp3 ad3 K3 U3 te3 k4 n4 hk4 hn4 F3 T3 S3 z3 B3 sm3
        rw [← ej]
        refine V.widen hk4 hn4 (ih (j + 1) hp3 t2 ad3 K3 U3 (drStep (sA s) (sB s) (sF s) p) te3 _ (by omega) (by rw [est]; exact hr) e1 sm3 ?_ (fun q h1 h2 => (F3 q h1).trans (F2 q h1 h2)) T3 S3 z3 (B3.le (by omega)))
        rw [F3 ax hax0, hx2, est]
      have cf := c_find de hp2 (Fsh hp) ad1 _ _ _ T2.2.2 S1 t2 _ _ _ _ _ _ _ _ _ ht2 (kk : Int) (by omega)
      by_cases cT : kk ∈ tl te.1
      · have ef : fnd te.1 (kk : Int) = some kk := fnd_some (z := (kk : Int)) ⟨by omega, cT⟩
        rw [ef] at cf
        have h1z : 1 ≤ tz te.1 := by rw [← tz_len]; exact List.length_pos_of_mem cT
        refine v_iload (n' := 34) h dX0_drawnTold_32 rfl rfl ?_
        refine v_iload_n (n' := 35) h dX0_drawnTold_34 rfl rfl ?_
        refine v_icmp_ge (n' := 38) (tgt := 96) h dX0_drawnTold_35 rfl rfl (by omega) (by omega) (fun c35 => ?_) (fun c35 => ?_)
        · omega
        · refine v_aload_n (n' := 39) h dX0_drawnTold_38 rfl rfl ?_
          refine v_bipush (n' := 41) h dX0_drawnTold_39 rfl (by decide) ?_
          refine vc_callV (n' := 44) (ci := 0) h ((c41).d hde) rfl (by first | assumption | exact upH_s | exact (upH_n (by assumption)).trans (by assumption) | exact (upH_n (by assumption)).trans upH_s | exact (upH_n (by assumption)).trans ((upH_n (by assumption)).trans (by assumption))) (lw_V q889 q891 qs34 q82 q892) hdX0_draw ⟨by omega, by decide⟩ ⟨by omega, by omega⟩ (Nat.le_of_ble_eq_true rfl) dX0_drawnTold_41 rfl (eI fun z41 hp41 p41 => ?_) rfl
          obtain ⟨ez41, fz41⟩ := p41
          have ez41 := ez41.symm
          have fz41 := fz41.symm
          subst ez41 fz41
          refine v_istore7 (n' := 46) h dX0_drawnTold_44 rfl rfl ?_
          refine v_aload (n' := 48) h dX0_drawnTold_46 rfl rfl ?_
          refine v_iload (n' := 50) h dX0_drawnTold_48 rfl rfl ?_
          refine vc_callV (n' := 53) (ci := 1) h ((cf).d hde) rfl (by first | assumption | exact upH_s | exact (upH_n (by assumption)).trans (by assumption) | exact (upH_n (by assumption)).trans upH_s | exact (upH_n (by assumption)).trans ((upH_n (by assumption)).trans (by assumption))) (lw_V q610 q611 q612 q83 q613) hdX1_find ⟨by omega, by decide⟩ ⟨by omega, by omega⟩ (Nat.le_of_ble_eq_true rfl) dX0_drawnTold_50 rfl (eQ fun z50 hp50 p50 => ?_) rfl
          obtain ⟨ez50, fz50⟩ := p50
          have ez50 := ez50.symm
          have fz50 := fz50.symm
          subst ez50 fz50
          refine v_ifnull (n' := 56) (tgt := 67) h dX0_drawnTold_53 rfl rfl (fun c53 => ?_) (fun a53 c53 => ?_)
          · cases c53
          · refine v_aload (n' := 58) h dX0_drawnTold_56 rfl rfl ?_
            refine v_iload (n' := 60) h dX0_drawnTold_58 rfl rfl ?_
            refine vc_callV (n' := 63) (ci := 1) h ((c_take de hp2 (Fsh hp) t2 ad1 _ _ _ _ _ te T2 Fr2 S1 z1 (B1.le (by omega)) hab hfee kk cT).d hde) rfl (by first | assumption | exact upH_s | exact (upH_n (by assumption)).trans (by assumption) | exact (upH_n (by assumption)).trans upH_s | exact (upH_n (by assumption)).trans ((upH_n (by assumption)).trans (by assumption))) (lw_V q729 q730 q731 q83 q732) hdX1_take ⟨by omega, by decide⟩ ⟨by omega, by omega⟩ (Nat.le_of_ble_eq_true rfl) dX0_drawnTold_60 rfl (eI fun z60 hp60 p60 => ?_) rfl
            obtain ⟨ez60, T60, F60, -⟩ := p60
            subst ez60
            refine v_pop (n' := 64) h dX0_drawnTold_63 rfl rfl ?_
            refine v_goto (tgt := 90) h dX0_drawnTold_64 rfl ?_
            refine v_iinc6 (n' := 93) h dX0_drawnTold_90 rfl rfl ?_
            refine v_goto (tgt := 32) h dX0_drawnTold_93 rfl ?_
            refine nxt3 hp60 ad1 _ _ _ _ _ (by omega) (by omega) F60 T60 (srt_tl levR_tl (del_srt S1)) ?_ (teLeave_B B1 (by omega) z1 h1z hfee) ?_
            · have := del_tz S1 cT
              have q : tz (teLeave (sA s) (sB s) (sF s) te kk).1 = tz (del te.1 kk) := tz_tl levR_tl
              omega
            · rw [est, if_pos (by rw [← sm.1]; exact cT)]
              exact sm.leave kk
      · have ef : fnd te.1 (kk : Int) = none := fnd_none (z := (kk : Int)) (fun z => cT z.2)
        rw [ef] at cf
        by_cases c40 : tz te.1 < 40
        · skip
          refine v_iload (n' := 34) h dX0_drawnTold_32 rfl rfl ?_
          refine v_iload_n (n' := 35) h dX0_drawnTold_34 rfl rfl ?_
          refine v_icmp_ge (n' := 38) (tgt := 96) h dX0_drawnTold_35 rfl rfl (by omega) (by omega) (fun c35 => ?_) (fun c35 => ?_)
          · omega
          · refine v_aload_n (n' := 39) h dX0_drawnTold_38 rfl rfl ?_
            refine v_bipush (n' := 41) h dX0_drawnTold_39 rfl (by decide) ?_
            refine vc_callV (n' := 44) (ci := 0) h ((c41).d hde) rfl (by first | assumption | exact upH_s | exact (upH_n (by assumption)).trans (by assumption) | exact (upH_n (by assumption)).trans upH_s | exact (upH_n (by assumption)).trans ((upH_n (by assumption)).trans (by assumption))) (lw_V q889 q891 qs34 q82 q892) hdX0_draw ⟨by omega, by decide⟩ ⟨by omega, by omega⟩ (Nat.le_of_ble_eq_true rfl) dX0_drawnTold_41 rfl (eI fun z41 hp41 p41 => ?_) rfl
            obtain ⟨ez41, fz41⟩ := p41
            have ez41 := ez41.symm
            have fz41 := fz41.symm
            subst ez41 fz41
            refine v_istore7 (n' := 46) h dX0_drawnTold_44 rfl rfl ?_
            refine v_aload (n' := 48) h dX0_drawnTold_46 rfl rfl ?_
            refine v_iload (n' := 50) h dX0_drawnTold_48 rfl rfl ?_
            refine vc_callV (n' := 53) (ci := 1) h ((cf).d hde) rfl (by first | assumption | exact upH_s | exact (upH_n (by assumption)).trans (by assumption) | exact (upH_n (by assumption)).trans upH_s | exact (upH_n (by assumption)).trans ((upH_n (by assumption)).trans (by assumption))) (lw_V q610 q611 q612 q83 q613) hdX1_find ⟨by omega, by decide⟩ ⟨by omega, by omega⟩ (Nat.le_of_ble_eq_true rfl) dX0_drawnTold_50 rfl (eQ fun z50 hp50 p50 => ?_) rfl
            obtain ⟨ez50, fz50⟩ := p50
            have ez50 := ez50.symm
            have fz50 := fz50.symm
            subst ez50 fz50
            refine v_ifnull (n' := 56) (tgt := 67) h dX0_drawnTold_53 rfl rfl (fun c53 => ?_) (fun a53 c53 => ?_)
            · refine v_aload (n' := 69) h dX0_drawnTold_67 rfl rfl ?_
              refine v_getN (n' := 72) (ci := 1) h rfl in_X1 4 (by decide) q127 rfl dX0_drawnTold_69 rfl (by first | assumption | exact upH_s | exact (upH_n (by assumption)).trans (by assumption) | exact (upH_n (by assumption)).trans upH_s | exact (upH_n (by assumption)).trans ((upH_n (by assumption)).trans (by assumption))) (by rfl) ?_
              refine v_bipush (n' := 74) h dX0_drawnTold_72 rfl (by decide) ?_
              refine v_icmp_ge (n' := 77) (tgt := 90) h dX0_drawnTold_74 rfl rfl (by omega) (by omega) (fun c74 => ?_) (fun c74 => ?_)
              · omega
              · refine v_aload (n' := 79) h dX0_drawnTold_77 rfl rfl ?_
                refine v_iconst (n' := 80) h dX0_drawnTold_79 rfl ?_
                refine v_iload (n' := 82) h dX0_drawnTold_80 rfl rfl ?_
                refine v_iconst (n' := 83) h dX0_drawnTold_82 rfl ?_
                refine vc_callS (n' := 86) h ((c_made de hp2 0 (kk : Int) 0 (by decide)).d hde) (lw_S q710 q413 q82 q414) hdX0_made ⟨by omega, by decide⟩ ⟨by omega, by omega⟩ (Nat.le_of_ble_eq_true rfl) dX0_drawnTold_83 rfl (eR fun z83 hp83 p83 => ?_) rfl
                obtain ⟨n83, p83⟩ := p83
                subst p83
                have F83 : Frm (Fsh hp) hp2 (upH hp2 z83 (eO 0 (kk : Int) 0 none none)) := Frm.up (Fr2 z83 n83)
                have T83 := T2.keep (hp' := upH hp2 z83 (eO 0 (kk : Int) 0 none none)) (fun q c hq _ => (upH_n (free_ne hq n83)).trans hq)
                have ht83 := T83.1
                refine vc_callV (n' := 89) (ci := 1) h ((c_put de _ (Fsh hp) t2 ad1 _ _ _ _ _ te T83 (F83.fre Fr2) S1 c40 (B1.le (by omega)) hab hfee kk 0 z83 0 cT hkk (by decide) upH_s (Fr2 z83 n83)).d hde) rfl (by first | assumption | exact upH_s | exact (upH_n (by assumption)).trans (by assumption) | exact (upH_n (by assumption)).trans upH_s | exact (upH_n (by assumption)).trans ((upH_n (by assumption)).trans (by assumption))) (lw_V q560 q561 q562 q83 q563) hdX1_put ⟨by omega, by decide⟩ ⟨by omega, by omega⟩ (Nat.le_of_ble_eq_true rfl) dX0_drawnTold_86 rfl (eI fun z86 hp86 p86 => ?_) rfl
                obtain ⟨ez86, T86, F86⟩ := p86
                subst ez86
                refine v_pop (n' := 90) h dX0_drawnTold_89 rfl rfl ?_
                refine v_iinc6 (n' := 93) h dX0_drawnTold_90 rfl rfl ?_
                refine v_goto (tgt := 32) h dX0_drawnTold_93 rfl ?_
                refine nxt3 hp86 _ _ _ _ _ _ (by omega) (by omega) (F83.tr F86) T86 (srt_tl (entR_tl S1 cT) (ins_srt S1 cT)) ?_ (teEnter_B B1 (by omega) c40 hfee) ?_
                · have q : tz (teEnter (sA s) (sB s) (sF s) te kk).1 = tz (ins te.1 kk) := tz_tl (entR_tl S1 cT)
                  rw [ins_tz] at q
                  omega
                · rw [est, if_neg (by rw [← sm.1]; exact cT), if_pos (by rw [← sm.1]; exact c40)]
                  exact sm.enter kk
            · cases c53
        · skip
          refine v_iload (n' := 34) h dX0_drawnTold_32 rfl rfl ?_
          refine v_iload_n (n' := 35) h dX0_drawnTold_34 rfl rfl ?_
          refine v_icmp_ge (n' := 38) (tgt := 96) h dX0_drawnTold_35 rfl rfl (by omega) (by omega) (fun c35 => ?_) (fun c35 => ?_)
          · omega
          · refine v_aload_n (n' := 39) h dX0_drawnTold_38 rfl rfl ?_
            refine v_bipush (n' := 41) h dX0_drawnTold_39 rfl (by decide) ?_
            refine vc_callV (n' := 44) (ci := 0) h ((c41).d hde) rfl (by first | assumption | exact upH_s | exact (upH_n (by assumption)).trans (by assumption) | exact (upH_n (by assumption)).trans upH_s | exact (upH_n (by assumption)).trans ((upH_n (by assumption)).trans (by assumption))) (lw_V q889 q891 qs34 q82 q892) hdX0_draw ⟨by omega, by decide⟩ ⟨by omega, by omega⟩ (Nat.le_of_ble_eq_true rfl) dX0_drawnTold_41 rfl (eI fun z41 hp41 p41 => ?_) rfl
            obtain ⟨ez41, fz41⟩ := p41
            have ez41 := ez41.symm
            have fz41 := fz41.symm
            subst ez41 fz41
            refine v_istore7 (n' := 46) h dX0_drawnTold_44 rfl rfl ?_
            refine v_aload (n' := 48) h dX0_drawnTold_46 rfl rfl ?_
            refine v_iload (n' := 50) h dX0_drawnTold_48 rfl rfl ?_
            refine vc_callV (n' := 53) (ci := 1) h ((cf).d hde) rfl (by first | assumption | exact upH_s | exact (upH_n (by assumption)).trans (by assumption) | exact (upH_n (by assumption)).trans upH_s | exact (upH_n (by assumption)).trans ((upH_n (by assumption)).trans (by assumption))) (lw_V q610 q611 q612 q83 q613) hdX1_find ⟨by omega, by decide⟩ ⟨by omega, by omega⟩ (Nat.le_of_ble_eq_true rfl) dX0_drawnTold_50 rfl (eQ fun z50 hp50 p50 => ?_) rfl
            obtain ⟨ez50, fz50⟩ := p50
            have ez50 := ez50.symm
            have fz50 := fz50.symm
            subst ez50 fz50
            refine v_ifnull (n' := 56) (tgt := 67) h dX0_drawnTold_53 rfl rfl (fun c53 => ?_) (fun a53 c53 => ?_)
            · refine v_aload (n' := 69) h dX0_drawnTold_67 rfl rfl ?_
              refine v_getN (n' := 72) (ci := 1) h rfl in_X1 4 (by decide) q127 rfl dX0_drawnTold_69 rfl (by first | assumption | exact upH_s | exact (upH_n (by assumption)).trans (by assumption) | exact (upH_n (by assumption)).trans upH_s | exact (upH_n (by assumption)).trans ((upH_n (by assumption)).trans (by assumption))) (by rfl) ?_
              refine v_bipush (n' := 74) h dX0_drawnTold_72 rfl (by decide) ?_
              refine v_icmp_ge (n' := 77) (tgt := 90) h dX0_drawnTold_74 rfl rfl (by omega) (by omega) (fun c74 => ?_) (fun c74 => ?_)
              · refine v_iinc6 (n' := 93) h dX0_drawnTold_90 rfl rfl ?_
                refine v_goto (tgt := 32) h dX0_drawnTold_93 rfl ?_
                refine nxt3 hp2 ad1 _ _ te _ _ (by omega) (by omega) Frm.rf T2 S1 z1 (B1.le (by omega)) ?_
                rw [est, if_neg (by rw [← sm.1]; exact cT), if_neg (by rw [← sm.1]; exact c40)]
                exact sm
              · omega
            · cases c53
  refine v_new (n' := 3) (ci := 1) h rfl in_X1 tyX1 tyX1_ok q112 q113 q83 (fs := dvX1) dvX1_ok dX0_drawnTold_0 rfl (rmC (by omega)) (rmS (by omega)) (fun a0 n0 => ?_)
  refine v_dup (n' := 4) h dX0_drawnTold_3 rfl rfl ?_
  refine vc_callIN (n' := 7) h ((c_tinit de _ a0).d hde) q116 q83 q114 q115 rfl hdX1_init ⟨by omega, by decide⟩ ⟨by omega, by omega⟩ (Nat.le_of_ble_eq_true rfl) dX0_drawnTold_4 rfl (eV fun hp4 p4 => ?_) rfl
  have p4 := p4.symm
  subst p4
  have nx : ax ≠ a0 := free_ne hx n0
  have nt : t ≠ a0 := free_ne ht n0
  have F0 : Frm (Fsh hp) hp (upH hp a0 (.inr (1, dvX1))) := Frm.up n0
  have T0 := (hH.ext F0).2.2.1
  refine v_aload_n (n' := 8) h dX0_drawnTold_7 rfl rfl ?_
  refine v_get (n' := 11) (ci := 0) h rfl in_X0 0 (by decide) q188 rfl dX0_drawnTold_8 rfl (by first | assumption | exact upH_s | exact (upH_n (by assumption)).trans (by assumption) | exact (upH_n (by assumption)).trans upH_s | exact (upH_n (by assumption)).trans ((upH_n (by assumption)).trans (by assumption))) (by rfl) ?_
  refine vc_callV (n' := 14) (ci := 1) h ((c_like de _ W t ad _ _ _ _ _ _ T0 hs hz1 a0 upH_s nt).d hde) rfl (by first | assumption | exact upH_s | exact (upH_n (by assumption)).trans (by assumption) | exact (upH_n (by assumption)).trans upH_s | exact (upH_n (by assumption)).trans ((upH_n (by assumption)).trans (by assumption))) (lw_V q824 q825 q826 q83 q827) hdX1_like ⟨by omega, by decide⟩ ⟨by omega, by omega⟩ (Nat.le_of_ble_eq_true rfl) dX0_drawnTold_11 rfl (eR fun z11 hp11 p11 => ?_) rfl
  obtain ⟨ez11, F11, ad1, T11⟩ := p11
  subst ez11
  have hw : ∀ q, (Fsh (upH hp z11 (.inr (1, dvX1))) q ∨ q = z11) → Fsh hp q := by
    intro q hq
    rcases hq with hq | hq
    · by_cases c : q = z11
      · rw [c]; exact n0
      · have hq : upH hp z11 (.inr (1, dvX1)) q = none := hq
        rw [upH_n c] at hq
        exact hq
    · rw [hq]; exact n0
  have FF := F0.tr (F11.wk hw)
  have TF := T11.wk hw
  have hx11 := FF.ex hx
  have hax0 : hp ax ≠ none := by rw [hx]; exact fun z => by cases z
  refine v_astore4 (n' := 16) h dX0_drawnTold_14 rfl rfl ?_
  refine v_aload_n (n' := 17) h dX0_drawnTold_16 rfl rfl ?_
  refine v_iload_n (n' := 18) h dX0_drawnTold_17 rfl rfl ?_
  refine v_i2l (n' := 19) h dX0_drawnTold_18 rfl (by omega) ?_
  refine v_put (n' := 22) (ci := 0) h rfl in_X0 tyX0 tyX0_ok nmX0 11 (by decide) q201 rfl rfl dX0_drawnTold_19 rfl (by first | assumption | exact upH_s | exact (upH_n (by assumption)).trans (by assumption) | exact (upH_n (by assumption)).trans upH_s | exact (upH_n (by assumption)).trans ((upH_n (by assumption)).trans (by assumption))) (by show 11 < 20; decide) rfl rfl ?_
  have TG := TF.keep (hp' := upH hp11 ax (xO A t kt (setI σ 11 seed))) (fun q c h1 h2 => (upH_n (fun z => hax0 (by rw [← z]; exact h2))).trans h1)
  have htG := TG.1
  show V Γ _ _ (upH hp11 ax (xO A t kt (setI σ 11 seed))) 22 _ _
  refine v_aload (n' := 24) h dX0_drawnTold_22 rfl rfl ?_
  refine v_getN (n' := 27) (ci := 1) h rfl in_X1 9 (by decide) q137 rfl dX0_drawnTold_24 rfl (by first | assumption | exact upH_s | exact (upH_n (by assumption)).trans (by assumption) | exact (upH_n (by assumption)).trans upH_s | exact (upH_n (by assumption)).trans ((upH_n (by assumption)).trans (by assumption))) (by rfl) ?_
  refine v_istore5 (n' := 29) h dX0_drawnTold_27 rfl rfl ?_
  refine v_iconst (n' := 30) h dX0_drawnTold_29 rfl ?_
  refine v_istore6 (n' := 32) h dX0_drawnTold_30 rfl rfl ?_
  exact loop times 0 _ z11 ad1 _ _ (seed, te00) (sC s).1 none (by omega) (by dsimp only; omega) rfl hsim0 upH_s (fun q h1 h2 => (upH_n h2).trans (FF q h1)) TG hs hz1 (hB.le (by omega))
theorem k_drawn (de : Nat) (hp : AH) (ax : Nat) (s : SS) (n : Int) (hC : CRel de hp ax s) (hi : SInv s n) (hn : n ≤ 64) (times seed what : Int) (ha : -2147483648 ≤ times ∧ times ≤ 2147483647) (hb : -2147483648 ≤ seed ∧ seed ≤ 2147483647) (hw : -2147483648 ≤ what ∧ what ≤ 2147483647) : CtE de yX0_drawn cX0_drawn 4 (some .int) (rmK 64 821 16250) [.ref ax, .int (iI times), .int (iI seed), .int (iI what)] hp (rI (fun z hp' => z = oDrawn s times seed what ∧ CRel de hp' ax s)) := by
  have hC2 := hC
  obtain ⟨W, A, t, kt, σ, ad, hH, hX⟩ := hC2
  have hr := x_r hX hi hn
  have hx := hH.1.1
  have e1 : σ.1 1 = sSh s := hX.1
  unfold oDrawn
  refine CtE.of (by decide) (EL.c1 rfl (EL.c1 rfl (EL.c1 rfl (EL.c1 rfl EL.n0)))) (fun Γ h hq hnm hde => ?_)
  refine v_iload_n (n' := 1) h dX0_drawn_0 rfl rfl ?_
  refine v_iconst (n' := 2) h dX0_drawn_1 rfl ?_
  refine v_bipush (n' := 4) h dX0_drawn_2 rfl (by decide) ?_
  refine vc_callS (n' := 7) h ((c_in de hp times 1 60 ha (by omega) (by omega)).d hde) (lw_S q255 q256 q82 q257) hdX0_in ⟨by omega, by decide⟩ ⟨by omega, by omega⟩ (Nat.le_of_ble_eq_true rfl) dX0_drawn_4 rfl (eI fun z4 hp4 p4 => ?_) rfl
  obtain ⟨ez4, fz4⟩ := p4
  have ez4 := ez4.symm
  have fz4 := fz4.symm
  subst ez4 fz4
  refine v_bif_eq (n' := 10) (tgt := 23) h dX0_drawn_7 rfl rfl (fun c7 => ?_) (fun c7 => ?_)
  · refine v_bipush (n' := 25) h dX0_drawn_23 rfl (by decide) ?_
    refine v_iret h hq dX0_drawn_25 (by omega) (by omega) (ret_i ?_)
    exact ⟨(if_pos (by omega)).symm, hC⟩
  · refine v_iload_n (n' := 11) h dX0_drawn_10 rfl rfl ?_
    refine v_if_lt (n' := 14) (tgt := 23) h dX0_drawn_11 rfl rfl (by omega) (fun c11 => ?_) (fun c11 => ?_)
    · refine v_bipush (n' := 25) h dX0_drawn_23 rfl (by decide) ?_
      refine v_iret h hq dX0_drawn_25 (by omega) (by omega) (ret_i ?_)
      exact ⟨(if_pos (by omega)).symm, hC⟩
    · refine v_iload_n (n' := 15) h dX0_drawn_14 rfl rfl ?_
      refine v_iconst (n' := 16) h dX0_drawn_15 rfl ?_
      refine v_iconst (n' := 17) h dX0_drawn_16 rfl ?_
      refine vc_callS (n' := 20) h ((c_in de hp what 0 2 hw (by omega) (by omega)).d hde) (lw_S q255 q256 q82 q257) hdX0_in ⟨by omega, by decide⟩ ⟨by omega, by omega⟩ (Nat.le_of_ble_eq_true rfl) dX0_drawn_17 rfl (eI fun z17 hp17 p17 => ?_) rfl
      obtain ⟨ez17, fz17⟩ := p17
      have ez17 := ez17.symm
      have fz17 := fz17.symm
      subst ez17 fz17
      refine v_bif_ne (n' := 23) (tgt := 26) h dX0_drawn_20 rfl rfl (fun c20 => ?_) (fun c20 => ?_)
      · refine v_aload_n (n' := 27) h dX0_drawn_26 rfl rfl ?_
        refine vc_callV (n' := 30) (ci := 0) h ((c_isShelf de hp ax A t kt σ hx (by omega)).d hde) rfl (by first | assumption | exact upH_s | exact (upH_n (by assumption)).trans (by assumption) | exact (upH_n (by assumption)).trans upH_s | exact (upH_n (by assumption)).trans ((upH_n (by assumption)).trans (by assumption))) (lw_V q684 q686 qs22 q82 q687) hdX0_isShelf ⟨by omega, by decide⟩ ⟨by omega, by omega⟩ (Nat.le_of_ble_eq_true rfl) dX0_drawn_27 rfl (eI fun z27 hp27 p27 => ?_) rfl
        obtain ⟨ez27, fz27⟩ := p27
        have ez27 := ez27.symm
        have fz27 := fz27.symm
        subst ez27 fz27
        refine v_bif_eq (n' := 33) (tgt := 43) h dX0_drawn_30 rfl rfl (fun c30 => ?_) (fun c30 => ?_)
        · refine v_bipush (n' := 45) h dX0_drawn_43 rfl (by decide) ?_
          refine v_iret h hq dX0_drawn_45 (by omega) (by omega) (ret_i ?_)
          exact ⟨by rw [if_neg (by omega), if_pos (by omega)], hC⟩
        · obtain ⟨tn, rfl⟩ : ∃ tn : Nat, times = (tn : Int) := ⟨times.toNat, by omega⟩
          refine v_aload_n (n' := 34) h dX0_drawn_33 rfl rfl ?_
          refine v_iload_n (n' := 35) h dX0_drawn_34 rfl rfl ?_
          refine v_iload_n (n' := 36) h dX0_drawn_35 rfl rfl ?_
          refine v_iload_n (n' := 37) h dX0_drawn_36 rfl rfl ?_
          refine vc_callV (n' := 40) (ci := 0) h ((c_drawnTold de hp ax s n hC hi hn (by omega) tn (by omega) seed what (by omega) (by omega)).d hde) rfl (by first | assumption | exact upH_s | exact (upH_n (by assumption)).trans (by assumption) | exact (upH_n (by assumption)).trans upH_s | exact (upH_n (by assumption)).trans ((upH_n (by assumption)).trans (by assumption))) (lw_V q885 q887 qs33 q82 q888) hdX0_drawnTold ⟨by omega, by decide⟩ ⟨by omega, by omega⟩ (Nat.le_of_ble_eq_true rfl) dX0_drawn_37 rfl (eI fun z37 hp37 p37 => ?_) rfl
          obtain ⟨ez37, C37⟩ := p37
          subst ez37
          refine v_goto (tgt := 45) h dX0_drawn_40 rfl ?_
          refine v_iret h hq dX0_drawn_45 (by omega) (by omega) (ret_i ?_)
          exact ⟨by rw [if_neg (by omega), if_neg (by omega), Int.toNat_natCast], C37⟩
      · refine v_bipush (n' := 25) h dX0_drawn_23 rfl (by decide) ?_
        refine v_iret h hq dX0_drawn_25 (by omega) (by omega) (ret_i ?_)
        exact ⟨(if_pos (by omega)).symm, hC⟩
