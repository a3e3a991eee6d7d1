/-! TREES of entries: taken -/
set_option maxRecDepth 100000
theorem eO_ne_t {kd : Nat} {x v : Int} {l r : Option Nat} {fs : List Value} {ci : Nat} (h : ci < 5 ∨ 9 < ci) (hk : kd < 5) : eO kd x v l r ≠ .inr (ci, fs) := fun z => by
  have := congrArg Prod.fst (Sum.inr.inj z)
  simp at this
  omega
theorem c_without (de : Nat) (W : Nat → Prop) (ad : Nat → Nat) (K U : Nat → Int) : ∀ (T : Tr) (hp : AH) (k : Nat), HT hp W ad K U T → Srt T → k ∈ tl T → ∀ d, tz T ≤ d → d ≤ 1000 →
    CtE de yX1_without cX1_without 3 (some (.object "CreditShelf$Entry")) (rmK (d + 2) 0 0) [va_rf ((ro T).map ad), .int (iI k)] hp (rQ (fun o hp' => o = (ro (del T k)).map ad ∧ HT hp' W ad K U (del T k) ∧ (∀ q, (∀ x ∈ tl T, q ≠ ad x) → hp' q = hp q) ∧ ∃ l r, hp' (ad k) = some (eO (K k).toNat k (U k) l r))) := by
  intro T
  induction T with
  | leaf u => intro hp k _ _ hk; simp [tl] at hk
  | branch x l r ihl ihr =>
    intro hp k hT hs hk d hd hd2
    have hT0 := hT
    obtain ⟨⟨he, hW, hx, hK⟩, hl, hr⟩ := HT.br.mp hT
    obtain ⟨g1, g2, g3, g4⟩ := srt_br.mp hs
    simp only [tz] at hd
    obtain ⟨d, rfl⟩ : ∃ e, d = e + 1 := ⟨d - 1, by omega⟩
    have mx : x ∈ tl (.branch x l r) := mem_br.mpr (Or.inr (Or.inl rfl))
    have ml : ∀ y ∈ tl l, y ∈ tl (.branch x l r) := fun y hy => mem_br.mpr (Or.inl hy)
    have mr : ∀ y ∈ tl r, y ∈ tl (.branch x l r) := fun y hy => mem_br.mpr (Or.inr (Or.inr hy))
    have nxl : ∀ y ∈ tl l, ad x ≠ ad y := fun y hy z => by have := hT0.inj hT0 mx (ml y hy) z; have := g3 y hy; omega
    have nxr : ∀ y ∈ tl r, ad x ≠ ad y := fun y hy z => by have := hT0.inj hT0 mx (mr y hy) z; have := g4 y hy; omega
    have nlr : ∀ y ∈ tl l, ∀ z ∈ tl r, ad y ≠ ad z := fun y hy z hz e => by have := hT0.inj hT0 (ml y hy) (mr z hz) e; have := g3 y hy; have := g4 z hz; omega
    have hk100 : k < 100 := by obtain ⟨_, _, _, _, q, _⟩ := hT0.at hk; exact q
    show CtE de yX1_without cX1_without 3 (some (.object "CreditShelf$Entry")) (rmK (d + 1 + 2) 0 0) [.ref (ad x), .int (iI k)] hp _
    by_cases c : k = x
    · subst c
      refine CtE.of (by decide) (EL.c1 rfl (EL.c1 rfl (EL.nn EL.n0))) (fun Γ h hq hnm hde => ?_)
      cases hL : ro l with
      | none =>
        have ed : del (.branch k l r) k = r := by rw [del_br, if_pos rfl, hL]
        rw [ed] at hq
        rw [hL] at he
        refine v_iload_n (n' := 1) h dX1_without_0 rfl rfl ?_
        refine v_aload_n (n' := 2) h dX1_without_1 rfl rfl ?_
        refine v_ekey (n' := 5) h q424 dX1_without_2 rfl (by first | assumption | exact upH_s | exact (upH_n (by assumption)).trans (by assumption) | exact (upH_n (by assumption)).trans upH_s | exact (upH_n (by assumption)).trans ((upH_n (by assumption)).trans (by assumption))) (by omega) ?_
        refine v_icmp_eq (n' := 8) (tgt := 74) h dX1_without_5 rfl rfl (by omega) (by omega) (fun c5 => ?_) (fun c5 => ?_)
        · clear c5
          refine v_aload_n (n' := 75) h dX1_without_74 rfl rfl ?_
          refine v_eleft (n' := 78) h q428 dX1_without_75 rfl (by first | assumption | exact upH_s | exact (upH_n (by assumption)).trans (by assumption) | exact (upH_n (by assumption)).trans upH_s | exact (upH_n (by assumption)).trans ((upH_n (by assumption)).trans (by assumption))) (by omega) ?_
          refine v_ifnull (n' := 81) (tgt := 88) h dX1_without_78 rfl rfl (fun c78 => ?_) (fun a78 c78 => ?_)
          · refine v_aload_n (n' := 89) h dX1_without_88 rfl rfl ?_
            refine v_eleft (n' := 92) h q428 dX1_without_89 rfl (by first | assumption | exact upH_s | exact (upH_n (by assumption)).trans (by assumption) | exact (upH_n (by assumption)).trans upH_s | exact (upH_n (by assumption)).trans ((upH_n (by assumption)).trans (by assumption))) (by omega) ?_
            refine v_ifnonnull (n' := 95) (tgt := 102) h dX1_without_92 rfl rfl (fun a92 c92 => ?_) (fun c92 => ?_)
            · cases c92
            · refine v_aload_n (n' := 96) h dX1_without_95 rfl rfl ?_
              refine v_eright (n' := 99) h q430 dX1_without_96 rfl (by first | assumption | exact upH_s | exact (upH_n (by assumption)).trans (by assumption) | exact (upH_n (by assumption)).trans upH_s | exact (upH_n (by assumption)).trans ((upH_n (by assumption)).trans (by assumption))) (by omega) ?_
              refine v_goto (tgt := 106) h dX1_without_99 rfl ?_
              refine v_aret h hq dX1_without_106 (Or.inl ⟨_, rfl⟩) (rf_or _) (by omega) (by omega) (ret_q ?_)
              exact ⟨rfl, hr, fun _ _ => rfl, _, _, he⟩
          · cases c78
        · exact absurd rfl c5
      | some y1 =>
        cases hR : ro r with
        | none =>
          have ed : del (.branch k l r) k = l := by rw [del_br, if_pos rfl, hL, hR]
          rw [ed] at hq
          rw [hR] at he
          refine v_iload_n (n' := 1) h dX1_without_0 rfl rfl ?_
          refine v_aload_n (n' := 2) h dX1_without_1 rfl rfl ?_
          refine v_ekey (n' := 5) h q424 dX1_without_2 rfl (by first | assumption | exact upH_s | exact (upH_n (by assumption)).trans (by assumption) | exact (upH_n (by assumption)).trans upH_s | exact (upH_n (by assumption)).trans ((upH_n (by assumption)).trans (by assumption))) (by omega) ?_
          refine v_icmp_eq (n' := 8) (tgt := 74) h dX1_without_5 rfl rfl (by omega) (by omega) (fun c5 => ?_) (fun c5 => ?_)
          · clear c5
            refine v_aload_n (n' := 75) h dX1_without_74 rfl rfl ?_
            refine v_eleft (n' := 78) h q428 dX1_without_75 rfl (by first | assumption | exact upH_s | exact (upH_n (by assumption)).trans (by assumption) | exact (upH_n (by assumption)).trans upH_s | exact (upH_n (by assumption)).trans ((upH_n (by assumption)).trans (by assumption))) (by omega) ?_
            refine v_ifnull (n' := 81) (tgt := 88) h dX1_without_78 rfl rfl (fun c78 => ?_) (fun a78 c78 => ?_)
            · rw [hL] at c78; cases c78
            · refine v_aload_n (n' := 82) h dX1_without_81 rfl rfl ?_
              refine v_eright (n' := 85) h q430 dX1_without_82 rfl (by first | assumption | exact upH_s | exact (upH_n (by assumption)).trans (by assumption) | exact (upH_n (by assumption)).trans upH_s | exact (upH_n (by assumption)).trans ((upH_n (by assumption)).trans (by assumption))) (by omega) ?_
              refine v_ifnonnull (n' := 88) (tgt := 107) h dX1_without_85 rfl rfl (fun a85 c85 => ?_) (fun c85 => ?_)
              · cases c85
              · refine v_aload_n (n' := 89) h dX1_without_88 rfl rfl ?_
                refine v_eleft (n' := 92) h q428 dX1_without_89 rfl (by first | assumption | exact upH_s | exact (upH_n (by assumption)).trans (by assumption) | exact (upH_n (by assumption)).trans upH_s | exact (upH_n (by assumption)).trans ((upH_n (by assumption)).trans (by assumption))) (by omega) ?_
                refine v_ifnonnull (n' := 95) (tgt := 102) h dX1_without_92 rfl rfl (fun a92 c92 => ?_) (fun c92 => ?_)
                · refine v_aload_n (n' := 103) h dX1_without_102 rfl rfl ?_
                  refine v_eleft (n' := 106) h q428 dX1_without_103 rfl (by first | assumption | exact upH_s | exact (upH_n (by assumption)).trans (by assumption) | exact (upH_n (by assumption)).trans upH_s | exact (upH_n (by assumption)).trans ((upH_n (by assumption)).trans (by assumption))) (by omega) ?_
                  refine v_aret h hq dX1_without_106 (Or.inl ⟨_, rfl⟩) (rf_or _) (by omega) (by omega) (ret_q ?_)
                  exact ⟨rfl, hl, fun _ _ => rfl, _, _, he⟩
                · rw [hL] at c92; cases c92
          · exact absurd rfl c5
        | some y2 =>
          have ed : del (.branch k l r) k = .branch (tmin r y2) l (del r (tmin r y2)) := by rw [del_br, if_pos rfl, hL, hR]
          rw [ed] at hq
          have hm : tmin r y2 ∈ tl r := by
            rcases tmin_mem (T := r) (d := y2) with q | q
            · rw [q.2] at hR; cases hR
            · exact q
          obtain ⟨lm, rm, hcm, hWm, hm100, hKm⟩ := hr.at hm
          have e2 : (ro r).map ad = some (ad y2) := by rw [hR]; rfl
          have c124 := ihr hp (tmin r y2) hr g2 hm d (by omega) (by omega)
          rw [e2] at c124
          rw [e2] at he
          refine v_iload_n (n' := 1) h dX1_without_0 rfl rfl ?_
          refine v_aload_n (n' := 2) h dX1_without_1 rfl rfl ?_
          refine v_ekey (n' := 5) h q424 dX1_without_2 rfl (by first | assumption | exact upH_s | exact (upH_n (by assumption)).trans (by assumption) | exact (upH_n (by assumption)).trans upH_s | exact (upH_n (by assumption)).trans ((upH_n (by assumption)).trans (by assumption))) (by omega) ?_
          refine v_icmp_eq (n' := 8) (tgt := 74) h dX1_without_5 rfl rfl (by omega) (by omega) (fun c5 => ?_) (fun c5 => ?_)
          · clear c5
            refine v_aload_n (n' := 75) h dX1_without_74 rfl rfl ?_
            refine v_eleft (n' := 78) h q428 dX1_without_75 rfl (by first | assumption | exact upH_s | exact (upH_n (by assumption)).trans (by assumption) | exact (upH_n (by assumption)).trans upH_s | exact (upH_n (by assumption)).trans ((upH_n (by assumption)).trans (by assumption))) (by omega) ?_
            refine v_ifnull (n' := 81) (tgt := 88) h dX1_without_78 rfl rfl (fun c78 => ?_) (fun a78 c78 => ?_)
            · rw [hL] at c78; cases c78
            · refine v_aload_n (n' := 82) h dX1_without_81 rfl rfl ?_
              refine v_eright (n' := 85) h q430 dX1_without_82 rfl (by first | assumption | exact upH_s | exact (upH_n (by assumption)).trans (by assumption) | exact (upH_n (by assumption)).trans upH_s | exact (upH_n (by assumption)).trans ((upH_n (by assumption)).trans (by assumption))) (by omega) ?_
              refine v_ifnonnull (n' := 88) (tgt := 107) h dX1_without_85 rfl rfl (fun a85 c85 => ?_) (fun c85 => ?_)
              · refine v_aload_n (n' := 108) h dX1_without_107 rfl rfl ?_
                refine v_eright (n' := 111) h q430 dX1_without_108 rfl (by first | assumption | exact upH_s | exact (upH_n (by assumption)).trans (by assumption) | exact (upH_n (by assumption)).trans upH_s | exact (upH_n (by assumption)).trans ((upH_n (by assumption)).trans (by assumption))) (by omega) ?_
                refine vc_callS (n' := 114) h ((c_leastOf de hp W ad K U r y2 hr hR d (by omega) (by omega)).d hde) (lw_S q736 q737 q83 q738) hdX1_leastOf ⟨by omega, by decide⟩ ⟨by omega, by omega⟩ (Nat.le_of_ble_eq_true rfl) dX1_without_111 rfl (eR fun z111 hp111 p111 => ?_) rfl
                obtain ⟨ez111, fz111⟩ := p111
                have ez111 := ez111.symm
                have fz111 := fz111.symm
                subst ez111 fz111
                refine v_astore2 (n' := 115) h dX1_without_114 rfl rfl ?_
                refine v_aload_n (n' := 116) h dX1_without_115 rfl rfl ?_
                refine v_aload_n (n' := 117) h dX1_without_116 rfl rfl ?_
                refine v_eright (n' := 120) h q430 dX1_without_117 rfl (by first | assumption | exact upH_s | exact (upH_n (by assumption)).trans (by assumption) | exact (upH_n (by assumption)).trans upH_s | exact (upH_n (by assumption)).trans ((upH_n (by assumption)).trans (by assumption))) (by omega) ?_
                refine v_aload_n (n' := 121) h dX1_without_120 rfl rfl ?_
                refine v_ekey (n' := 124) h q424 dX1_without_121 rfl (by first | assumption | exact upH_s | exact (upH_n (by assumption)).trans (by assumption) | exact (upH_n (by assumption)).trans upH_s | exact (upH_n (by assumption)).trans ((upH_n (by assumption)).trans (by assumption))) (by omega) ?_
                refine vc_callS (n' := 127) h ((c124).d hde) (lw_S q733 q734 q83 q735) hdX1_without ⟨by omega, by decide⟩ ⟨by omega, by omega⟩ (Nat.le_of_ble_eq_true rfl) dX1_without_124 rfl (eQ fun z124 hp124 p124 => ?_) rfl
                obtain ⟨ez124, T124, F124, lm', rm', hcm'⟩ := p124
                subst ez124
                have he124 : hp124 (ad k) = some (eO (K k).toNat k (U k) ((ro l).map ad) (some (ad y2))) := (F124 _ (fun y hy => nxr y hy)).trans he
                have nkm := nxr _ hm
                refine v_pright (n' := 130) h q430 dX1_without_127 rfl (by first | assumption | exact upH_s | exact (upH_n (by assumption)).trans (by assumption) | exact (upH_n (by assumption)).trans upH_s | exact (upH_n (by assumption)).trans ((upH_n (by assumption)).trans (by assumption))) (by omega) ?_
                refine v_aload_n (n' := 131) h dX1_without_130 rfl rfl ?_
                refine v_aload_n (n' := 132) h dX1_without_131 rfl rfl ?_
                refine v_eleft (n' := 135) h q428 dX1_without_132 rfl (by first | assumption | exact upH_s | exact (upH_n (by assumption)).trans (by assumption) | exact (upH_n (by assumption)).trans upH_s | exact (upH_n (by assumption)).trans ((upH_n (by assumption)).trans (by assumption))) (by omega) ?_
                refine v_pleft (n' := 138) h q428 dX1_without_135 rfl (by first | assumption | exact upH_s | exact (upH_n (by assumption)).trans (by assumption) | exact (upH_n (by assumption)).trans upH_s | exact (upH_n (by assumption)).trans ((upH_n (by assumption)).trans (by assumption))) (by omega) ?_
                refine v_aload_n (n' := 139) h dX1_without_138 rfl rfl ?_
                refine v_aret h hq dX1_without_139 (Or.inl ⟨_, rfl⟩) (Or.inr ⟨_, rfl⟩) (by omega) (by omega) (ret_qs ?_)
                refine ⟨rfl, HT.br.mpr ⟨⟨upH_s, hWm, hm100, hKm⟩, ?_, ?_⟩, ?_, _, _, (upH_n nkm).trans ((upH_n nkm).trans he124)⟩
                · refine hl.frm (fun y hy => ?_)
                  rw [upH_n (nlr y hy _ hm), upH_n (nlr y hy _ hm), F124 _ (fun z hz => nlr y hy z hz)]
                · refine T124.frm (fun y hy => ?_)
                  have hy1 := (del_mem g2).mp hy
                  have hne : ad y ≠ ad (tmin r y2) := fun z => hy1.2 (hr.inj hr hy1.1 hm z)
                  rw [upH_n hne, upH_n hne]
                · intro q hq
                  rw [upH_n (hq _ (mr _ hm)), upH_n (hq _ (mr _ hm)), F124 q (fun z hz => hq z (mr z hz))]
              · cases c85
          · exact absurd rfl c5
    · by_cases c2 : k < x
      · have hkl := mem_l hs hk c2
        have ed : del (.branch x l r) k = .branch x (del l k) r := by rw [del_br, if_neg c, if_pos c2]
        rw [ed]
        refine CtE.of (by decide) (EL.c1 rfl (EL.c1 rfl (EL.nn EL.n0))) (fun Γ h hq hnm hde => ?_)
        refine v_iload_n (n' := 1) h dX1_without_0 rfl rfl ?_
        refine v_aload_n (n' := 2) h dX1_without_1 rfl rfl ?_
        refine v_ekey (n' := 5) h q424 dX1_without_2 rfl (by first | assumption | exact upH_s | exact (upH_n (by assumption)).trans (by assumption) | exact (upH_n (by assumption)).trans upH_s | exact (upH_n (by assumption)).trans ((upH_n (by assumption)).trans (by assumption))) (by omega) ?_
        refine v_icmp_eq (n' := 8) (tgt := 74) h dX1_without_5 rfl rfl (by omega) (by omega) (fun c5 => ?_) (fun c5 => ?_)
        · omega
        · refine v_iload_n (n' := 9) h dX1_without_8 rfl rfl ?_
          refine v_aload_n (n' := 10) h dX1_without_9 rfl rfl ?_
          refine v_ekey (n' := 13) h q424 dX1_without_10 rfl (by first | assumption | exact upH_s | exact (upH_n (by assumption)).trans (by assumption) | exact (upH_n (by assumption)).trans upH_s | exact (upH_n (by assumption)).trans ((upH_n (by assumption)).trans (by assumption))) (by omega) ?_
          refine v_icmp_ge (n' := 16) (tgt := 23) h dX1_without_13 rfl rfl (by omega) (by omega) (fun c13 => ?_) (fun c13 => ?_)
          · omega
          · refine v_aload_n (n' := 17) h dX1_without_16 rfl rfl ?_
            refine v_eleft (n' := 20) h q428 dX1_without_17 rfl (by first | assumption | exact upH_s | exact (upH_n (by assumption)).trans (by assumption) | exact (upH_n (by assumption)).trans upH_s | exact (upH_n (by assumption)).trans ((upH_n (by assumption)).trans (by assumption))) (by omega) ?_
            refine v_goto (tgt := 27) h dX1_without_20 rfl ?_
            refine v_iload_n (n' := 28) h dX1_without_27 rfl rfl ?_
            refine vc_callS (n' := 31) h ((ihl hp k hl g1 hkl d (by omega) (by omega)).d hde) (lw_S q733 q734 q83 q735) hdX1_without ⟨by omega, by decide⟩ ⟨by omega, by omega⟩ (Nat.le_of_ble_eq_true rfl) dX1_without_28 rfl (eQ fun z28 hp28 p28 => ?_) rfl
            obtain ⟨ez28, T28, F28, lk, rk, hck⟩ := p28
            subst ez28
            have he28 := (F28 _ (fun y hy => nxl y hy)).trans he
            refine v_astore2Q (n' := 32) h dX1_without_31 rfl rfl ?_
            refine v_aload_n (n' := 33) h dX1_without_32 rfl rfl ?_
            refine v_iload_n (n' := 34) h dX1_without_33 rfl rfl ?_
            refine v_aload_n (n' := 35) h dX1_without_34 rfl rfl ?_
            refine v_ekey (n' := 38) h q424 dX1_without_35 rfl (by first | assumption | exact upH_s | exact (upH_n (by assumption)).trans (by assumption) | exact (upH_n (by assumption)).trans upH_s | exact (upH_n (by assumption)).trans ((upH_n (by assumption)).trans (by assumption))) (by omega) ?_
            refine v_icmp_ge (n' := 41) (tgt := 45) h dX1_without_38 rfl rfl (by omega) (by omega) (fun c38 => ?_) (fun c38 => ?_)
            · omega
            · refine v_aload_nQ (n' := 42) h dX1_without_41 rfl rfl ?_
              refine v_goto (tgt := 49) h dX1_without_42 rfl ?_
              refine v_pleft (n' := 52) h q428 dX1_without_49 rfl (by first | assumption | exact upH_s | exact (upH_n (by assumption)).trans (by assumption) | exact (upH_n (by assumption)).trans upH_s | exact (upH_n (by assumption)).trans ((upH_n (by assumption)).trans (by assumption))) (by omega) ?_
              refine v_aload_n (n' := 53) h dX1_without_52 rfl rfl ?_
              refine v_iload_n (n' := 54) h dX1_without_53 rfl rfl ?_
              refine v_aload_n (n' := 55) h dX1_without_54 rfl rfl ?_
              refine v_ekey (n' := 58) h q424 dX1_without_55 rfl (by first | assumption | exact upH_s | exact (upH_n (by assumption)).trans (by assumption) | exact (upH_n (by assumption)).trans upH_s | exact (upH_n (by assumption)).trans ((upH_n (by assumption)).trans (by assumption))) (by omega) ?_
              refine v_icmp_ge (n' := 61) (tgt := 68) h dX1_without_58 rfl rfl (by omega) (by omega) (fun c58 => ?_) (fun c58 => ?_)
              · omega
              · refine v_aload_n (n' := 62) h dX1_without_61 rfl rfl ?_
                refine v_eright (n' := 65) h q430 dX1_without_62 rfl (by first | assumption | exact upH_s | exact (upH_n (by assumption)).trans (by assumption) | exact (upH_n (by assumption)).trans upH_s | exact (upH_n (by assumption)).trans ((upH_n (by assumption)).trans (by assumption))) (by omega) ?_
                refine v_goto (tgt := 69) h dX1_without_65 rfl ?_
                refine v_pright (n' := 72) h q430 dX1_without_69 rfl (by first | assumption | exact upH_s | exact (upH_n (by assumption)).trans (by assumption) | exact (upH_n (by assumption)).trans upH_s | exact (upH_n (by assumption)).trans ((upH_n (by assumption)).trans (by assumption))) (by omega) ?_
                refine v_aload_n (n' := 73) h dX1_without_72 rfl rfl ?_
                refine v_aret h hq dX1_without_73 (Or.inl ⟨_, rfl⟩) (Or.inr ⟨_, rfl⟩) (by omega) (by omega) (ret_qs ?_)
                refine ⟨rfl, HT.br.mpr ⟨⟨upH_s, hW, hx, hK⟩, ?_, ?_⟩, ?_, lk, rk, ?_⟩
                · refine T28.frm (fun y hy => ?_)
                  have hy1 := (del_mem g1).mp hy
                  rw [upH_n (fun z => nxl y hy1.1 z.symm), upH_n (fun z => nxl y hy1.1 z.symm)]
                · refine hr.frm (fun y hy => ?_)
                  rw [upH_n (fun z => nxr y hy z.symm), upH_n (fun z => nxr y hy z.symm), F28 _ (fun z hz e => nlr z hz y hy e.symm)]
                · intro q hq
                  rw [upH_n (hq x mx), upH_n (hq x mx), F28 q (fun z hz => hq z (ml z hz))]
                · rw [upH_n (fun z => nxl k hkl z.symm), upH_n (fun z => nxl k hkl z.symm)]
                  exact hck
      · have hkr := mem_r hs hk (by omega)
        have ed : del (.branch x l r) k = .branch x l (del r k) := by rw [del_br, if_neg c, if_neg c2]
        rw [ed]
        refine CtE.of (by decide) (EL.c1 rfl (EL.c1 rfl (EL.nn EL.n0))) (fun Γ h hq hnm hde => ?_)
        refine v_iload_n (n' := 1) h dX1_without_0 rfl rfl ?_
        refine v_aload_n (n' := 2) h dX1_without_1 rfl rfl ?_
        refine v_ekey (n' := 5) h q424 dX1_without_2 rfl (by first | assumption | exact upH_s | exact (upH_n (by assumption)).trans (by assumption) | exact (upH_n (by assumption)).trans upH_s | exact (upH_n (by assumption)).trans ((upH_n (by assumption)).trans (by assumption))) (by omega) ?_
        refine v_icmp_eq (n' := 8) (tgt := 74) h dX1_without_5 rfl rfl (by omega) (by omega) (fun c5 => ?_) (fun c5 => ?_)
        · omega
        · refine v_iload_n (n' := 9) h dX1_without_8 rfl rfl ?_
          refine v_aload_n (n' := 10) h dX1_without_9 rfl rfl ?_
          refine v_ekey (n' := 13) h q424 dX1_without_10 rfl (by first | assumption | exact upH_s | exact (upH_n (by assumption)).trans (by assumption) | exact (upH_n (by assumption)).trans upH_s | exact (upH_n (by assumption)).trans ((upH_n (by assumption)).trans (by assumption))) (by omega) ?_
          refine v_icmp_ge (n' := 16) (tgt := 23) h dX1_without_13 rfl rfl (by omega) (by omega) (fun c13 => ?_) (fun c13 => ?_)
          · refine v_aload_n (n' := 24) h dX1_without_23 rfl rfl ?_
            refine v_eright (n' := 27) h q430 dX1_without_24 rfl (by first | assumption | exact upH_s | exact (upH_n (by assumption)).trans (by assumption) | exact (upH_n (by assumption)).trans upH_s | exact (upH_n (by assumption)).trans ((upH_n (by assumption)).trans (by assumption))) (by omega) ?_
            refine v_iload_n (n' := 28) h dX1_without_27 rfl rfl ?_
            refine vc_callS (n' := 31) h ((ihr hp k hr g2 hkr d (by omega) (by omega)).d hde) (lw_S q733 q734 q83 q735) hdX1_without ⟨by omega, by decide⟩ ⟨by omega, by omega⟩ (Nat.le_of_ble_eq_true rfl) dX1_without_28 rfl (eQ fun z28 hp28 p28 => ?_) rfl
            obtain ⟨ez28, T28, F28, lk, rk, hck⟩ := p28
            subst ez28
            have he28 := (F28 _ (fun y hy => nxr y hy)).trans he
            refine v_astore2Q (n' := 32) h dX1_without_31 rfl rfl ?_
            refine v_aload_n (n' := 33) h dX1_without_32 rfl rfl ?_
            refine v_iload_n (n' := 34) h dX1_without_33 rfl rfl ?_
            refine v_aload_n (n' := 35) h dX1_without_34 rfl rfl ?_
            refine v_ekey (n' := 38) h q424 dX1_without_35 rfl (by first | assumption | exact upH_s | exact (upH_n (by assumption)).trans (by assumption) | exact (upH_n (by assumption)).trans upH_s | exact (upH_n (by assumption)).trans ((upH_n (by assumption)).trans (by assumption))) (by omega) ?_
            refine v_icmp_ge (n' := 41) (tgt := 45) h dX1_without_38 rfl rfl (by omega) (by omega) (fun c38 => ?_) (fun c38 => ?_)
            · refine v_aload_n (n' := 46) h dX1_without_45 rfl rfl ?_
              refine v_eleft (n' := 49) h q428 dX1_without_46 rfl (by first | assumption | exact upH_s | exact (upH_n (by assumption)).trans (by assumption) | exact (upH_n (by assumption)).trans upH_s | exact (upH_n (by assumption)).trans ((upH_n (by assumption)).trans (by assumption))) (by omega) ?_
              refine v_pleft (n' := 52) h q428 dX1_without_49 rfl (by first | assumption | exact upH_s | exact (upH_n (by assumption)).trans (by assumption) | exact (upH_n (by assumption)).trans upH_s | exact (upH_n (by assumption)).trans ((upH_n (by assumption)).trans (by assumption))) (by omega) ?_
              refine v_aload_n (n' := 53) h dX1_without_52 rfl rfl ?_
              refine v_iload_n (n' := 54) h dX1_without_53 rfl rfl ?_
              refine v_aload_n (n' := 55) h dX1_without_54 rfl rfl ?_
              refine v_ekey (n' := 58) h q424 dX1_without_55 rfl (by first | assumption | exact upH_s | exact (upH_n (by assumption)).trans (by assumption) | exact (upH_n (by assumption)).trans upH_s | exact (upH_n (by assumption)).trans ((upH_n (by assumption)).trans (by assumption))) (by omega) ?_
              refine v_icmp_ge (n' := 61) (tgt := 68) h dX1_without_58 rfl rfl (by omega) (by omega) (fun c58 => ?_) (fun c58 => ?_)
              · refine v_aload_nQ (n' := 69) h dX1_without_68 rfl rfl ?_
                refine v_pright (n' := 72) h q430 dX1_without_69 rfl (by first | assumption | exact upH_s | exact (upH_n (by assumption)).trans (by assumption) | exact (upH_n (by assumption)).trans upH_s | exact (upH_n (by assumption)).trans ((upH_n (by assumption)).trans (by assumption))) (by omega) ?_
                refine v_aload_n (n' := 73) h dX1_without_72 rfl rfl ?_
                refine v_aret h hq dX1_without_73 (Or.inl ⟨_, rfl⟩) (Or.inr ⟨_, rfl⟩) (by omega) (by omega) (ret_qs ?_)
                refine ⟨rfl, HT.br.mpr ⟨⟨upH_s, hW, hx, hK⟩, ?_, ?_⟩, ?_, lk, rk, ?_⟩
                · refine hl.frm (fun y hy => ?_)
                  rw [upH_n (fun z => nxl y hy z.symm), upH_n (fun z => nxl y hy z.symm), F28 _ (fun z hz e => nlr y hy z hz e)]
                · refine T28.frm (fun y hy => ?_)
                  have hy1 := (del_mem g2).mp hy
                  rw [upH_n (fun z => nxr y hy1.1 z.symm), upH_n (fun z => nxr y hy1.1 z.symm)]
                · intro q hq
                  rw [upH_n (hq x mx), upH_n (hq x mx), F28 q (fun z hz => hq z (mr z hz))]
                · rw [upH_n (fun z => nxr k hkr z.symm), upH_n (fun z => nxr k hkr z.symm)]
                  exact hck
              · omega
            · omega
          · omega
theorem teLeave_0 {a b f : Int} {T : Tr} {mo bu co cr lo : Int} {k : Nat} (hk : 1 ≤ (way T k).length) (h : ¬ levC a b mo T) : teLeave a b f (T, mo, bu, co, cr, lo) k = (del T k, if tz T = 1 then 0 else mo, bu, co, payN (cr, lo) (f * ((way T k).length : Int))) := by
  have hdep : (dep T k : Int) + 1 = ((way T k).length : Int) := by unfold dep; omega
  unfold teLeave levM
  dsimp only
  rw [levR_b h]
  dsimp only
  rw [if_pos rfl, hdep]
  unfold bn
  rw [if_pos rfl]
  simp
theorem teLeave_1 {a b f : Int} {T : Tr} {mo bu co cr lo : Int} {k : Nat} (hk : 1 ≤ (way T k).length) (h : levC a b mo T) : teLeave a b f (T, mo, bu, co, cr, lo) k = (flat (del T k), (tz T : Int) - 1, bu + 1, co + ((tz T - 1 : Nat) : Int), payN (payN (cr, lo) (f * ((way T k).length : Int))) (0 - ((tz T - 1 : Nat) : Int))) := by
  have hdep : (dep T k : Int) + 1 = ((way T k).length : Int) := by unfold dep; omega
  have h0 : tz T - 1 ≠ 0 := by have := h.1; omega
  unfold teLeave levM
  dsimp only
  rw [levR_a h]
  dsimp only
  rw [if_neg h0, hdep]
  unfold bn
  rw [if_neg h0]
theorem c_take (de : Nat) (hp : AH) (W : Nat → Prop) (t : Nat) (ad : Nat → Nat) (K U : Nat → Int) (a b f : Int) (te : Tre) (hTT : TT hp W t ad K U a b f te) (hf : Fre W hp) (hs : Srt te.1) (hz : tz te.1 ≤ 40) (hB : TeB te 500000) (hab : isRat a b) (hfee : 0 ≤ f ∧ f ≤ 9) (k : Nat) (hk : k ∈ tl te.1) :
    CtE de yX1_take cX1_take 3 (some .boolean) (rmK 62 12 264) [.ref t, .int (iI k)] hp (rI (fun z hp' => z = bi (levC a b te.2.1 te.1) ∧ TT hp' W t ad K U a b f (teLeave a b f te k) ∧ Frm W hp hp' ∧ ∃ l r, hp' (ad k) = some (eO (K k).toNat k (U k) l r))) := by
  obtain ⟨ht, hWt, hT⟩ := hTT
  obtain ⟨T, mo, bu, co, cr, lo⟩ := te
  dsimp only at ht hT hs hz hk ⊢
  obtain ⟨b1, b2, b3, b4, b5⟩ := hB
  dsimp only at b1 b2 b3 b4 b5
  have ht : hp t = some (tO ((ro T).map ad) a b f (tz T : Int) mo cr lo bu co) := ht
  have ab := rat_cases hab
  obtain ⟨lk0, rk0, hck0, hWk, hk100, hKk⟩ := hT.at hk
  have hwl := way_len (T := T) (k := k)
  have hw1 : 1 ≤ (way T k).length := by obtain ⟨p, hp1⟩ := way_self hs hk; rw [hp1]; simp
  have hlen : ((way T k).map ad).length = (way T k).length := List.length_map ..
  have hfr := feeR (f := f) (d := ((way T k).length : Int)) hfee (by omega)
  have hdz := del_tz hs hk
  have hds := del_srt (k := k) hs
  have hdzi : ((tz (del T k) : Nat) : Int) = (tz T : Int) - 1 := by omega
  have hro : ∀ {hp1 : AH} {T1 : Tr}, hp1 t = some (tO ((ro T).map ad) a b f (tz T : Int) mo cr lo bu co) → HT hp1 W ad K U T1 → ∀ x ∈ tl T1, ad x ≠ t := by
    intro hp1 T1 h1 h2 x hx
    obtain ⟨l1, r1, q1, -, -, q4⟩ := h2.at hx
    exact cell_ne q1 h1 (eO_ne_t (by decide) (by omega))
  have hmul : -2147483648 ≤ b * ((tz T : Int) - 1) ∧ b * ((tz T : Int) - 1) ≤ 2147483647 := by
    rcases ab with ⟨rfl, rfl⟩ | ⟨rfl, rfl⟩ | ⟨rfl, rfl⟩ | ⟨rfl, rfl⟩ <;> omega
  have hmul2 : -2147483648 ≤ a * mo ∧ a * mo ≤ 2147483647 := by
    rcases ab with ⟨rfl, rfl⟩ | ⟨rfl, rfl⟩ | ⟨rfl, rfl⟩ | ⟨rfl, rfl⟩ <;> omega
  have hpr : -1000000 ≤ (payN (cr, lo) (f * ((way T k).length : Int))).1 ∧ (payN (cr, lo) (f * ((way T k).length : Int))).1 ≤ 1000000 ∧ -1000000 ≤ (payN (cr, lo) (f * ((way T k).length : Int))).2 ∧ (payN (cr, lo) (f * ((way T k).length : Int))).2 ≤ 1000000 := by unfold payN mn; dsimp only; split <;> omega
  generalize hP : payN (cr, lo) (f * ((way T k).length : Int)) = P at hpr
  refine CtE.of (by decide) (EL.c1 rfl (EL.c1 rfl (EL.nn EL.n0))) (fun Γ h hq hnm hde => ?_)
  have tail0 : ∀ (hp4 : AH) , ¬ levC a b mo T → hp4 t = some (tO ((ro (del T k)).map ad) a b f ((tz T : Int) - 1) mo P.1 P.2 bu co) → HT hp4 W ad K U (del T k) → Frm W hp hp4 → (∃ l r, hp4 (ad k) = some (eO (K k).toNat k (U k) l r)) → V Γ 6 132 hp4 87 [some (.ref t), some (.int (iI k)), some (.int (iI 0))] [] := by
    intro hp4 hc e1 e2 e3 e4
    have eN : ∀ e, Frm W hp (upH hp4 t e) := fun e => e3.tr (Frm.up hWt)
    have eT : ∀ e, HT (upH hp4 t e) W ad K U (del T k) := fun e => e2.frm (fun x hx => by
      obtain ⟨l1, r1, q1, -, -, q4⟩ := e2.at hx
      exact upH_n (cell_ne q1 e1 (eO_ne_t (by decide) (by omega))))
    have eK : ∀ e, ∃ l r, upH hp4 t e (ad k) = some (eO (K k).toNat k (U k) l r) := fun e => by
      obtain ⟨l1, r1, q1⟩ := e4
      exact ⟨l1, r1, (upH_n (cell_ne q1 e1 (eO_ne_t (by decide) (by omega)))).trans q1⟩
    refine v_aload_n (n' := 88) h dX1_take_87 rfl rfl ?_
    refine v_iload_n (n' := 89) h dX1_take_88 rfl rfl ?_
    refine v_if_ne (n' := 92) (tgt := 99) h dX1_take_89 rfl rfl (by omega) (fun c89 => ?_) (fun c89 => ?_)
    · exact absurd rfl c89
    · refine v_aload_n (n' := 93) h dX1_take_92 rfl rfl ?_
      refine v_get (n' := 96) (ci := 1) h rfl in_X1 4 (by decide) q126 rfl dX1_take_93 rfl (by first | assumption | exact upH_s | exact (upH_n (by assumption)).trans (by assumption) | exact (upH_n (by assumption)).trans upH_s | exact (upH_n (by assumption)).trans ((upH_n (by assumption)).trans (by assumption))) (by rfl) ?_
      refine v_if_ne (n' := 99) (tgt := 106) h dX1_take_96 rfl rfl (by omega) (fun c96 => ?_) (fun c96 => ?_)
      · refine v_aload_n (n' := 107) h dX1_take_106 rfl rfl ?_
        refine v_get (n' := 110) (ci := 1) h rfl in_X1 5 (by decide) q128 rfl dX1_take_107 rfl (by first | assumption | exact upH_s | exact (upH_n (by assumption)).trans (by assumption) | exact (upH_n (by assumption)).trans upH_s | exact (upH_n (by assumption)).trans ((upH_n (by assumption)).trans (by assumption))) (by rfl) ?_
        refine v_put (n' := 113) (ci := 1) h rfl in_X1 tyX1 tyX1_ok nmX1 5 (by decide) q128 rfl rfl dX1_take_110 rfl (by first | assumption | exact upH_s | exact (upH_n (by assumption)).trans (by assumption) | exact (upH_n (by assumption)).trans upH_s | exact (upH_n (by assumption)).trans ((upH_n (by assumption)).trans (by assumption))) (by show 5 < 10; decide) rfl rfl ?_
        refine v_iload_n (n' := 114) h dX1_take_113 rfl rfl ?_
        refine v_zret h hq dX1_take_114 (by decide) (by omega) (by omega) (ret_i ?_)
        exact ⟨(bi_f hc).symm, by rw [teLeave_0 hw1 hc, hP, if_neg (by omega)]; exact ⟨by rw [upH_s]; show _ = some (tO _ a b f ((tz (del T k) : Nat) : Int) mo _ _ bu co); rw [hdzi]; rfl, hWt, eT _⟩, eN _, eK _⟩
      · refine v_aload_n (n' := 100) h dX1_take_99 rfl rfl ?_
        refine v_get (n' := 103) (ci := 1) h rfl in_X1 4 (by decide) q126 rfl dX1_take_100 rfl (by first | assumption | exact upH_s | exact (upH_n (by assumption)).trans (by assumption) | exact (upH_n (by assumption)).trans upH_s | exact (upH_n (by assumption)).trans ((upH_n (by assumption)).trans (by assumption))) (by rfl) ?_
        refine v_goto (tgt := 110) h dX1_take_103 rfl ?_
        refine v_put (n' := 113) (ci := 1) h rfl in_X1 tyX1 tyX1_ok nmX1 5 (by decide) q128 rfl rfl dX1_take_110 rfl (by first | assumption | exact upH_s | exact (upH_n (by assumption)).trans (by assumption) | exact (upH_n (by assumption)).trans upH_s | exact (upH_n (by assumption)).trans ((upH_n (by assumption)).trans (by assumption))) (by show 5 < 10; decide) rfl rfl ?_
        refine v_iload_n (n' := 114) h dX1_take_113 rfl rfl ?_
        refine v_zret h hq dX1_take_114 (by decide) (by omega) (by omega) (ret_i ?_)
        exact ⟨(bi_f hc).symm, by rw [teLeave_0 hw1 hc, hP, if_pos (by omega)]; exact ⟨by rw [upH_s]; show _ = some (tO _ a b f ((tz (del T k) : Nat) : Int) 0 _ _ bu co); rw [hdzi, show (tz T : Int) - 1 = 0 by omega]; rfl, hWt, eT _⟩, eN _, eK _⟩
  refine v_aload_n (n' := 1) h dX1_take_0 rfl rfl ?_
  refine v_aload_n (n' := 2) h dX1_take_1 rfl rfl ?_
  refine v_get (n' := 5) (ci := 1) h rfl in_X1 3 (by decide) q124 rfl dX1_take_2 rfl (by first | assumption | exact upH_s | exact (upH_n (by assumption)).trans (by assumption) | exact (upH_n (by assumption)).trans upH_s | exact (upH_n (by assumption)).trans ((upH_n (by assumption)).trans (by assumption))) (by rfl) ?_
  refine v_aload_n (n' := 6) h dX1_take_5 rfl rfl ?_
  refine v_iload_n (n' := 7) h dX1_take_6 rfl rfl ?_
  refine vc_callV (n' := 10) (ci := 1) h ((c_wayTo de hp W ad K U T hT (by omega) t a b f _ mo cr lo bu co ht k (by omega)).d hde) rfl (by first | assumption | exact upH_s | exact (upH_n (by assumption)).trans (by assumption) | exact (upH_n (by assumption)).trans upH_s | exact (upH_n (by assumption)).trans ((upH_n (by assumption)).trans (by assumption))) (lw_V q564 q565 q566 q83 q567) hdX1_wayTo ⟨by omega, by decide⟩ ⟨by omega, by omega⟩ (Nat.le_of_ble_eq_true rfl) dX1_take_7 rfl (eR fun z7 hp7 p7 => ?_) rfl
  obtain ⟨L7, F7⟩ := p7
  obtain ⟨arr, hl7⟩ := L7.len
  rw [hlen] at hl7
  have ht7 := F7.ex ht
  have hT7 := hT.ex (fun q e => F7.ex)
  have FW7 : Frm W hp hp7 := F7.wk (fun q hq => hf q hq)
  refine vc_callV (n' := 13) (ci := 10) h ((c_size de hp7 z7 _ _ arr hl7).d hde) rfl (by first | assumption | exact upH_s | exact (upH_n (by assumption)).trans (by assumption) | exact (upH_n (by assumption)).trans upH_s | exact (upH_n (by assumption)).trans ((upH_n (by assumption)).trans (by assumption))) (lw_V q571 q394 q395 q86 q396) hdJ2_size ⟨by omega, by decide⟩ ⟨by omega, by omega⟩ (Nat.le_of_ble_eq_true rfl) dX1_take_10 rfl (eI fun z10 hp10 p10 => ?_) rfl
  obtain ⟨ez10, fz10⟩ := p10
  have ez10 := ez10.symm
  have fz10 := fz10.symm
  subst ez10 fz10
  refine v_imul (n' := 14) h dX1_take_13 rfl ?_
  refine vc_callV (n' := 17) (ci := 1) h ((c_pay de hp7 t _ a b f _ mo cr lo bu co ht7 (f * ((way T k).length : Int)) (by omega) (by omega) (by omega)).d hde) rfl (by first | assumption | exact upH_s | exact (upH_n (by assumption)).trans (by assumption) | exact (upH_n (by assumption)).trans upH_s | exact (upH_n (by assumption)).trans ((upH_n (by assumption)).trans (by assumption))) (lw_V q575 q577 qs13 q83 q578) hdX1_pay ⟨by omega, by decide⟩ ⟨by omega, by omega⟩ (Nat.le_of_ble_eq_true rfl) dX1_take_14 rfl (eV fun hp14 p14 => ?_) rfl
  subst p14
  rw [hP]
  have hT14 : HT (upH hp7 t (tO ((ro T).map ad) a b f (tz T : Int) mo P.1 P.2 bu co)) W ad K U T := hT7.frm (fun x hx => upH_n (hro ht7 hT7 x hx))
  refine v_aload_n (n' := 18) h dX1_take_17 rfl rfl ?_
  refine v_aload_n (n' := 19) h dX1_take_18 rfl rfl ?_
  refine v_get (n' := 22) (ci := 1) h rfl in_X1 0 (by decide) q118 rfl dX1_take_19 rfl (by first | assumption | exact upH_s | exact (upH_n (by assumption)).trans (by assumption) | exact (upH_n (by assumption)).trans upH_s | exact (upH_n (by assumption)).trans ((upH_n (by assumption)).trans (by assumption))) (by rfl) ?_
  refine v_iload_n (n' := 23) h dX1_take_22 rfl rfl ?_
  refine vc_callS (n' := 26) h ((c_without de W ad K U T _ k hT14 hs hk 41 (by omega) (by omega)).d hde) (lw_S q733 q734 q83 q735) hdX1_without ⟨by omega, by decide⟩ ⟨by omega, by omega⟩ (Nat.le_of_ble_eq_true rfl) dX1_take_23 rfl (eQ fun z23 hp23 p23 => ?_) rfl
  obtain ⟨ez23, T23, F23, hck⟩ := p23
  subst ez23
  have ht23 : hp23 t = some (tO ((ro T).map ad) a b f (tz T : Int) mo P.1 P.2 bu co) := (F23 t (fun x hx z => hro ht7 hT7 x hx z.symm)).trans upH_s
  have FW23 : Frm W hp hp23 := by
    intro q hq
    rw [F23 q (fun x hx z => hq (by rw [z]; obtain ⟨_, _, _, w1, _⟩ := hT.at hx; exact w1)), upH_n (fun z => hq (by rw [z]; exact hWt))]
    exact FW7 q hq
  have h4 : ∀ e : va_E, HT (upH hp23 t e) W ad K U (del T k) ∧ Frm W hp (upH hp23 t e) ∧ ∃ l r, upH hp23 t e (ad k) = some (eO (K k).toNat k (U k) l r) := fun e => by
    refine ⟨T23.frm (fun x hx => ?_), FW23.tr (Frm.up hWt), ?_⟩
    · obtain ⟨l1, r1, q1, -, -, q4⟩ := T23.at hx
      exact upH_n (cell_ne q1 ht23 (eO_ne_t (by decide) (by omega)))
    · obtain ⟨l1, r1, q1⟩ := hck
      exact ⟨l1, r1, (upH_n (cell_ne q1 ht23 (eO_ne_t (by decide) (by omega)))).trans q1⟩
  refine v_put (n' := 29) (ci := 1) h rfl in_X1 tyX1 tyX1_ok nmX1 0 (by decide) q118 rfl rfl dX1_take_26 rfl (by first | assumption | exact upH_s | exact (upH_n (by assumption)).trans (by assumption) | exact (upH_n (by assumption)).trans upH_s | exact (upH_n (by assumption)).trans ((upH_n (by assumption)).trans (by assumption))) (by show 0 < 10; decide) (nr_rf _ _) (ft_rf _ _) ?_
  refine v_aload_n (n' := 30) h dX1_take_29 rfl rfl ?_
  refine v_dup (n' := 31) h dX1_take_30 rfl rfl ?_
  refine v_get (n' := 34) (ci := 1) h rfl in_X1 4 (by decide) q126 rfl dX1_take_31 rfl (by first | assumption | exact upH_s | exact (upH_n (by assumption)).trans (by assumption) | exact (upH_n (by assumption)).trans upH_s | exact (upH_n (by assumption)).trans ((upH_n (by assumption)).trans (by assumption))) (by rfl) ?_
  refine v_iconst (n' := 35) h dX1_take_34 rfl ?_
  refine v_isub (n' := 36) h dX1_take_35 rfl ?_
  refine v_put (n' := 39) (ci := 1) h rfl in_X1 tyX1 tyX1_ok nmX1 4 (by decide) q126 rfl rfl dX1_take_36 rfl (by first | assumption | exact upH_s | exact (upH_n (by assumption)).trans (by assumption) | exact (upH_n (by assumption)).trans upH_s | exact (upH_n (by assumption)).trans ((upH_n (by assumption)).trans (by assumption))) (by show 4 < 10; decide) rfl rfl ?_
  refine v_aload_n (n' := 40) h dX1_take_39 rfl rfl ?_
  refine v_get (n' := 43) (ci := 1) h rfl in_X1 4 (by decide) q126 rfl dX1_take_40 rfl (by first | assumption | exact upH_s | exact (upH_n (by assumption)).trans (by assumption) | exact (upH_n (by assumption)).trans upH_s | exact (upH_n (by assumption)).trans ((upH_n (by assumption)).trans (by assumption))) (by rfl) ?_
  refine v_if_le (n' := 46) (tgt := 71) h dX1_take_43 rfl rfl (by omega) (fun c43 => ?_) (fun c43 => ?_)
  · refine v_iconst (n' := 72) h dX1_take_71 rfl ?_
    refine v_istore2 (n' := 73) h dX1_take_72 rfl rfl ?_
    refine v_iload_n (n' := 74) h dX1_take_73 rfl rfl ?_
    rw [upH_up]
    obtain ⟨g1, g2, g3⟩ := h4 (tO ((ro (del T k)).map ad) a b f ((tz T : Int) - 1) mo P.1 P.2 bu co)
    refine v_if_eq (n' := 77) (tgt := 87) h dX1_take_74 rfl rfl (by omega) (fun c74 => ?_) (fun c74 => ?_)
    · exact tail0 _ (fun z => by have := z.1; omega) upH_s g1 g2 g3
    · exact absurd rfl c74
  · refine v_aload_n (n' := 47) h dX1_take_46 rfl rfl ?_
    refine v_get (n' := 50) (ci := 1) h rfl in_X1 2 (by decide) q122 rfl dX1_take_47 rfl (by first | assumption | exact upH_s | exact (upH_n (by assumption)).trans (by assumption) | exact (upH_n (by assumption)).trans upH_s | exact (upH_n (by assumption)).trans ((upH_n (by assumption)).trans (by assumption))) (by rfl) ?_
    refine v_aload_n (n' := 51) h dX1_take_50 rfl rfl ?_
    refine v_get (n' := 54) (ci := 1) h rfl in_X1 4 (by decide) q126 rfl dX1_take_51 rfl (by first | assumption | exact upH_s | exact (upH_n (by assumption)).trans (by assumption) | exact (upH_n (by assumption)).trans upH_s | exact (upH_n (by assumption)).trans ((upH_n (by assumption)).trans (by assumption))) (by rfl) ?_
    refine v_imul (n' := 55) h dX1_take_54 rfl ?_
    refine v_aload_n (n' := 56) h dX1_take_55 rfl rfl ?_
    refine v_get (n' := 59) (ci := 1) h rfl in_X1 1 (by decide) q120 rfl dX1_take_56 rfl (by first | assumption | exact upH_s | exact (upH_n (by assumption)).trans (by assumption) | exact (upH_n (by assumption)).trans upH_s | exact (upH_n (by assumption)).trans ((upH_n (by assumption)).trans (by assumption))) (by rfl) ?_
    refine v_aload_n (n' := 60) h dX1_take_59 rfl rfl ?_
    refine v_get (n' := 63) (ci := 1) h rfl in_X1 5 (by decide) q128 rfl dX1_take_60 rfl (by first | assumption | exact upH_s | exact (upH_n (by assumption)).trans (by assumption) | exact (upH_n (by assumption)).trans upH_s | exact (upH_n (by assumption)).trans ((upH_n (by assumption)).trans (by assumption))) (by rfl) ?_
    refine v_imul (n' := 64) h dX1_take_63 rfl ?_
    refine v_icmp_ge (n' := 67) (tgt := 71) h dX1_take_64 rfl rfl (by assumption) (by assumption) (fun c64 => ?_) (fun c64 => ?_)
    · refine v_iconst (n' := 72) h dX1_take_71 rfl ?_
      refine v_istore2 (n' := 73) h dX1_take_72 rfl rfl ?_
      refine v_iload_n (n' := 74) h dX1_take_73 rfl rfl ?_
      rw [upH_up]
      obtain ⟨g1, g2, g3⟩ := h4 (tO ((ro (del T k)).map ad) a b f ((tz T : Int) - 1) mo P.1 P.2 bu co)
      refine v_if_eq (n' := 77) (tgt := 87) h dX1_take_74 rfl rfl (by omega) (fun c74 => ?_) (fun c74 => ?_)
      · exact tail0 _ (fun z => by have := z.2; omega) upH_s g1 g2 g3
      · exact absurd rfl c74
    · refine v_iconst (n' := 68) h dX1_take_67 rfl ?_
      refine v_goto (tgt := 72) h dX1_take_68 rfl ?_
      refine v_istore2 (n' := 73) h dX1_take_72 rfl rfl ?_
      refine v_iload_n (n' := 74) h dX1_take_73 rfl rfl ?_
      rw [upH_up]
      obtain ⟨g1, g2, g3⟩ := h4 (tO ((ro (del T k)).map ad) a b f ((tz T : Int) - 1) mo P.1 P.2 bu co)
      have hc : levC a b mo T := ⟨by omega, by omega⟩
      generalize hH : upH hp23 t (tO ((ro (del T k)).map ad) a b f ((tz T : Int) - 1) mo P.1 P.2 bu co) = hp4 at g1 g2 g3
      have ht4 : hp4 t = some (tO ((ro (del T k)).map ad) a b f ((tz T : Int) - 1) mo P.1 P.2 bu co) := by rw [← hH]; exact upH_s
      show V Γ 6 132 (upH hp23 t (tO ((ro (del T k)).map ad) a b f ((tz T : Int) - 1) mo P.1 P.2 bu co)) 74 [some (.ref t), some (.int (iI k)), some (.int (iI 1))] [.int (iI 1)]
      rw [hH]
      obtain ⟨lk, rk, hck4⟩ := g3
      obtain ⟨k0, hk0⟩ : ∃ k0, ro (del T k) = some k0 := by
        cases hD : del T k with
        | leaf u => rw [hD] at hdz; simp [tz] at hdz; have := hc.1; omega
        | branch y l r => exact ⟨y, rfl⟩
      have hsub : sub (del T k) k0 = del T k := by
        cases hD : del T k with
        | leaf u => rw [hD] at hk0; cases hk0
        | branch y l r => rw [hD] at hk0; cases hk0; rw [sub_br, if_pos rfl]
      have hne : ∀ x ∈ tl (del T k), ad x ≠ ad k := fun x hx z => by
        obtain ⟨l1, r1, q1, -, q3, -⟩ := g1.at hx
        rw [z, hck4] at q1
        have := eO_key (by omega) (by omega) (Option.some.inj q1)
        exact ((del_mem hs).mp hx).2 (by omega)
      have hTT4 : TT hp4 (fun q => W q ∧ q ≠ ad k) t ad K U a b f (del T k, mo, bu, co, P) := ⟨by rw [ht4]; show _ = some (tO _ a b f ((tz (del T k) : Nat) : Int) mo _ _ bu co); rw [hdzi], ⟨hWt, cell_ne ht4 hck4 (fun z => eO_ne_t (by decide) (by omega) z.symm)⟩, g1.cg (fun x hx => ⟨rfl, rfl, rfl, rfl, fun w => ⟨w, hne x hx⟩⟩)⟩
      have c83 := c_build de hp4 (fun q => W q ∧ q ≠ ad k) t ad K U a b f _ hTT4 (fun q hq => ⟨(g2.fre hf) q hq, fun z => by rw [z, hck4] at hq; cases hq⟩) hds (by dsimp only; omega) ⟨b1, by dsimp only; omega, by dsimp only; omega, ⟨hpr.1, hpr.2.1⟩, hpr.2.2⟩ k0 (ro_mem hk0)
      dsimp only at c83
      rw [pa_root hk0, hsub, gr_rootO hk0] at c83
      rw [hk0] at ht4
      refine v_if_eq (n' := 77) (tgt := 87) h dX1_take_74 rfl rfl (by omega) (fun c74 => ?_) (fun c74 => ?_)
      · exact absurd c74 (by decide)
      · refine v_aload_n (n' := 78) h dX1_take_77 rfl rfl ?_
        refine v_null (n' := 79) h dX1_take_78 rfl ?_
        refine v_aload_n (n' := 80) h dX1_take_79 rfl rfl ?_
        refine v_get (n' := 83) (ci := 1) h rfl in_X1 0 (by decide) q118 rfl dX1_take_80 rfl (by first | assumption | exact upH_s | exact (upH_n (by assumption)).trans (by assumption) | exact (upH_n (by assumption)).trans upH_s | exact (upH_n (by assumption)).trans ((upH_n (by assumption)).trans (by assumption))) (by rfl) ?_
        refine vc_callV (n' := 86) (ci := 1) h ((c83).d hde) rfl (by first | assumption | exact upH_s | exact (upH_n (by assumption)).trans (by assumption) | exact (upH_n (by assumption)).trans upH_s | exact (upH_n (by assumption)).trans ((upH_n (by assumption)).trans (by assumption))) (lw_V q592 q593 q594 q83 q595) hdX1_build ⟨by omega, by decide⟩ ⟨by omega, by omega⟩ (Nat.le_of_ble_eq_true rfl) dX1_take_83 rfl (eI fun z83 hp83 p83 => ?_) rfl
        obtain ⟨-, T83, F83⟩ := p83
        obtain ⟨ht83, -, hT83⟩ := T83
        have hck83 : hp83 (ad k) = _ := (F83 (ad k) (fun z => z.2 rfl)).trans hck4
        refine v_pop (n' := 87) h dX1_take_86 rfl rfl ?_
        refine v_aload_n (n' := 88) h dX1_take_87 rfl rfl ?_
        refine v_iload_n (n' := 89) h dX1_take_88 rfl rfl ?_
        refine v_if_ne (n' := 92) (tgt := 99) h dX1_take_89 rfl rfl (by omega) (fun c89 => ?_) (fun c89 => ?_)
        · refine v_aload_n (n' := 100) h dX1_take_99 rfl rfl ?_
          refine v_get (n' := 103) (ci := 1) h rfl in_X1 4 (by decide) q126 rfl dX1_take_100 rfl (by first | assumption | exact upH_s | exact (upH_n (by assumption)).trans (by assumption) | exact (upH_n (by assumption)).trans upH_s | exact (upH_n (by assumption)).trans ((upH_n (by assumption)).trans (by assumption))) (by rfl) ?_
          refine v_goto (tgt := 110) h dX1_take_103 rfl ?_
          refine v_put (n' := 113) (ci := 1) h rfl in_X1 tyX1 tyX1_ok nmX1 5 (by decide) q128 rfl rfl dX1_take_110 rfl (by first | assumption | exact upH_s | exact (upH_n (by assumption)).trans (by assumption) | exact (upH_n (by assumption)).trans upH_s | exact (upH_n (by assumption)).trans ((upH_n (by assumption)).trans (by assumption))) (by show 5 < 10; decide) rfl rfl ?_
          refine v_iload_n (n' := 114) h dX1_take_113 rfl rfl ?_
          refine v_zret h hq dX1_take_114 (by decide) (by omega) (by omega) (ret_i ?_)
          refine ⟨(bi_t hc).symm, ?_, ?_, lk, rk, ?_⟩
          · rw [teLeave_1 hw1 hc, hP]
            refine ⟨?_, hWt, ?_⟩
            · rw [upH_s]
              rw [show ((tz T - 1 : Nat) : Int) = ((tz (del T k) : Nat) : Int) by omega, show (tz T : Int) - 1 = ((tz (flat (del T k)) : Nat) : Int) by rw [flat_tz]; omega]
              rfl
            · refine (hT83.cg (W' := W) (fun x hx => ⟨rfl, rfl, rfl, rfl, fun w => w.1⟩)).frm (fun x hx => ?_)
              obtain ⟨l1, r1, q1, -, -, q4⟩ := hT83.at hx
              exact upH_n (cell_ne q1 ht83 (eO_ne_t (by decide) (by omega)))
          · exact (g2.tr (F83.wk (fun q z => z.1))).tr (Frm.up hWt)
          · exact (upH_n (cell_ne hck83 ht83 (eO_ne_t (by decide) (by omega)))).trans hck83
        · exact absurd c89 (by decide)
