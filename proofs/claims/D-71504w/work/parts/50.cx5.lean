/-! THE CLASS: put, take, tell, flatten -/
set_option maxRecDepth 100000
theorem HT_swap {hp hp' : AH} {W : Nat → Prop} {ad : Nat → Nat} {K U : Nat → Int} {k z kd : Nat} {v : Int} (hkd : kd < 5) (hk100 : k < 100) (hWz : W z) : ∀ {T : Tr} (d : Option Nat), (∀ p, d = some p → p ∉ tl T) → HT hp W ad K U T → Srt T → k ∈ tl T →
    (∀ x ∈ tl T, x ≠ k → pa T k d ≠ some x → hp' (ad x) = hp (ad x)) →
    (∀ p ∈ tl T, pa T k d = some p → ∃ l r, hp (ad p) = some (eO (K p).toNat p (U p) l r) ∧ hp' (ad p) = some (if l = some (ad k) then eO (K p).toNat p (U p) (some z) r else eO (K p).toNat p (U p) l (some z))) →
    (∀ l r, sub T k = .branch k l r → hp' z = some (eO kd k v ((ro l).map ad) ((ro r).map ad))) →
    HT hp' W (fun y => if y = k then z else ad y) (fun y => if y = k then (kd : Int) else K y) (fun y => if y = k then v else U y) T := by
  intro T
  induction T with
  | leaf u => intro d hd h hs hk; simp [tl] at hk
  | branch x l r ihl ihr =>
    intro d hd h hs hk h1 h2 h3
    obtain ⟨g1, g2, g3, g4⟩ := srt_br.mp hs
    obtain ⟨⟨he, hW, hx, hK⟩, hl, hr⟩ := HT.br.mp h
    have ml : ∀ y ∈ tl l, y ∈ tl (.branch x l r) := fun y hy => mem_br.mpr (Or.inl hy)
    have mr : ∀ y ∈ tl r, y ∈ tl (.branch x l r) := fun y hy => mem_br.mpr (Or.inr (Or.inr hy))
    have mx : x ∈ tl (.branch x l r) := mem_br.mpr (Or.inr (Or.inl rfl))
    have cgl : (∀ y ∈ tl l, y ≠ k ∧ hp' (ad y) = hp (ad y)) → HT hp' W (fun y => if y = k then z else ad y) (fun y => if y = k then (kd : Int) else K y) (fun y => if y = k then v else U y) l ∧ (ro l).map (fun y => if y = k then z else ad y) = (ro l).map ad := fun q => ⟨hl.cg (fun y hy => ⟨if_neg (q y hy).1, if_neg (q y hy).1, if_neg (q y hy).1, (q y hy).2, id⟩), ro_map (fun y hy => if_neg (q y hy).1)⟩
    have cgr : (∀ y ∈ tl r, y ≠ k ∧ hp' (ad y) = hp (ad y)) → HT hp' W (fun y => if y = k then z else ad y) (fun y => if y = k then (kd : Int) else K y) (fun y => if y = k then v else U y) r ∧ (ro r).map (fun y => if y = k then z else ad y) = (ro r).map ad := fun q => ⟨hr.cg (fun y hy => ⟨if_neg (q y hy).1, if_neg (q y hy).1, if_neg (q y hy).1, (q y hy).2, id⟩), ro_map (fun y hy => if_neg (q y hy).1)⟩
    by_cases c : k = x
    · subst c
      rw [pa_br, if_pos rfl] at h1 h2
      have h3 := h3 l r (by rw [sub_br, if_pos rfl])
      obtain ⟨q1, q2⟩ := cgl (fun y hy => ⟨fun e => by have := g3 y hy; omega, h1 y (ml y hy) (fun e => by have := g3 y hy; omega) (fun e => hd y e (ml y hy))⟩)
      obtain ⟨q3, q4⟩ := cgr (fun y hy => ⟨fun e => by have := g4 y hy; omega, h1 y (mr y hy) (fun e => by have := g4 y hy; omega) (fun e => hd y e (mr y hy))⟩)
      refine HT.br.mpr ⟨⟨?_, ?_, hk100, ?_⟩, q1, q3⟩
      · rw [if_pos rfl, if_pos rfl, if_pos rfl, q2, q4]
        exact h3
      · rw [if_pos rfl]; exact hWz
      · rw [if_pos rfl]; omega
    · have cx : ¬ x = k := fun e => c e.symm
      rw [pa_br, if_neg c] at h1 h2
      by_cases c2 : k < x
      · rw [if_pos c2] at h1 h2
        have hkl := mem_l hs hk c2
        have h3' : ∀ l0 r0, sub l k = .branch k l0 r0 → _ := fun l0 r0 e => h3 l0 r0 (by rw [sub_br, if_neg c, if_pos c2]; exact e)
        have hpx : ∀ y ∈ tl r, pa l k (some x) ≠ some y := by
          intro y hy e
          have := g4 y hy
          by_cases cr : ro l = some k
          · rw [pa_root cr] at e; cases e; omega
          · obtain ⟨p, p1, -, p3⟩ := pa_in g1 hkl cr
            rw [p3] at e; cases e; have := g3 _ p1; omega
        obtain ⟨q3, q4⟩ := cgr (fun y hy => ⟨fun e => by have := g4 y hy; omega, h1 y (mr y hy) (fun e => by have := g4 y hy; omega) (hpx y hy)⟩)
        have q1 := ihl (some x) (fun p e hp1 => by cases e; have := g3 _ hp1; omega) hl g1 hkl (fun y hy => h1 y (ml y hy)) (fun y hy => h2 y (ml y hy)) h3'
        refine HT.br.mpr ⟨⟨?_, by rw [if_neg cx]; exact hW, hx, by rw [if_neg cx]; exact hK⟩, q1, q3⟩
        rw [if_neg cx, if_neg cx, if_neg cx, q4]
        by_cases cr : ro l = some k
        · obtain ⟨l1, r1, e1, e2⟩ := h2 x mx (pa_root cr)
          rw [he] at e1
          have e1 := congrArg Prod.snd (Sum.inr.inj (Option.some.inj e1))
          simp only [List.cons.injEq, and_true, true_and] at e1
          have el : l1 = some (ad k) := by
            have := e1.1
            rw [cr] at this
            cases l1 with
            | none => cases this
            | some q => cases this; rfl
          rw [if_pos el] at e2
          rw [e2, cr]
          show some (Sum.inr _) = some (Sum.inr _)
          rw [← e1.2]
          show some (Sum.inr _) = some (Sum.inr (_, [_, _, va_rf (some (if k = k then z else ad k)), _]))
          rw [if_pos rfl]
        · obtain ⟨p, p1, p2, p3⟩ := pa_in g1 hkl cr
          rw [h1 x mx cx (by rw [p3]; intro e; cases e; have := g3 _ p1; omega)]
          have : (ro l).map (fun y => if y = k then z else ad y) = (ro l).map ad := by
            cases hl0 : ro l with
            | none => rfl
            | some y => exact congrArg some (if_neg (fun e => cr (by rw [hl0, e])))
          rw [this]
          exact he
      · rw [if_neg c2] at h1 h2
        have hkr := mem_r hs hk (by omega)
        have h3' : ∀ l0 r0, sub r k = .branch k l0 r0 → _ := fun l0 r0 e => h3 l0 r0 (by rw [sub_br, if_neg c, if_neg c2]; exact e)
        have hpx : ∀ y ∈ tl l, pa r k (some x) ≠ some y := by
          intro y hy e
          have := g3 y hy
          by_cases cr : ro r = some k
          · rw [pa_root cr] at e; cases e; omega
          · obtain ⟨p, p1, -, p3⟩ := pa_in g2 hkr cr
            rw [p3] at e; cases e; have := g4 _ p1; omega
        obtain ⟨q1, q2⟩ := cgl (fun y hy => ⟨fun e => by have := g3 y hy; omega, h1 y (ml y hy) (fun e => by have := g3 y hy; omega) (hpx y hy)⟩)
        have q3 := ihr (some x) (fun p e hp1 => by cases e; have := g4 _ hp1; omega) hr g2 hkr (fun y hy => h1 y (mr y hy)) (fun y hy => h2 y (mr y hy)) h3'
        refine HT.br.mpr ⟨⟨?_, by rw [if_neg cx]; exact hW, hx, by rw [if_neg cx]; exact hK⟩, q1, q3⟩
        rw [if_neg cx, if_neg cx, if_neg cx, q2]
        by_cases cr : ro r = some k
        · obtain ⟨l1, r1, e1, e2⟩ := h2 x mx (pa_root cr)
          rw [he] at e1
          have e1 := congrArg Prod.snd (Sum.inr.inj (Option.some.inj e1))
          simp only [List.cons.injEq, and_true, true_and] at e1
          have el : ¬ l1 = some (ad k) := by
            intro zz
            have q := e1.1
            rw [zz] at q
            cases hl0 : ro l with
            | none => rw [hl0] at q; cases q
            | some y =>
              rw [hl0] at q
              have q : ad y = ad k := Value.ref.inj q
              have := hl.inj hr (ro_mem hl0) hkr q
              have := g3 y (ro_mem hl0)
              omega
          rw [if_neg el] at e2
          rw [e2, cr]
          show some (Sum.inr _) = some (Sum.inr _)
          rw [← e1.1]
          show some (Sum.inr _) = some (Sum.inr (_, [_, _, _, va_rf (some (if k = k then z else ad k))]))
          rw [if_pos rfl]
        · obtain ⟨p, p1, p2, p3⟩ := pa_in g2 hkr cr
          rw [h1 x mx cx (by rw [p3]; intro e; cases e; have := g4 _ p1; omega)]
          have : (ro r).map (fun y => if y = k then z else ad y) = (ro r).map ad := by
            cases hl0 : ro r with
            | none => rfl
            | some y => exact congrArg some (if_neg (fun e => cr (by rw [hl0, e])))
          rw [this]
          exact he
theorem c_takeAway (de : Nat) (hp : AH) (W : Nat → Prop) (ax : Nat) (A : Nat → Nat) (t : Nat) (kt : Option Nat) (σ : MS) (ad : Nat → Nat) (s : SS) (hH : CH de hp W ax A t kt σ ad s) (hX : XS σ s) (hs : Srt (sC s).1.1) (hz : tz (sC s).1.1 ≤ 40) (hB : TeB (sC s).1 256000) (hab : isRat (sA s) (sB s)) (hfee : 0 ≤ sF s ∧ sF s ≤ 9) (k : Nat) (hk : k ∈ tl (sC s).1.1) :
    CtE de yX0_takeAway cX0_takeAway 2 none (rmK 63 12 264) [.ref ax, .int (iI k)] hp (rV (fun hp' => (∃ σ', CH de hp' W ax A t kt σ' ad (setC s (shTake (sA s) (sB s) (sF s) (sC s) k)) ∧ XS σ' (setC s (shTake (sA s) (sB s) (sF s) (sC s) k))) ∧ ∃ l r, hp' (ad k) = some (eO ((sC s).2.1 k).toNat k ((sC s).2.2.1 k) l r))) := by
  have hax := hH.1.1
  have h5 : 0 ≤ σ.1 5 ∧ σ.1 5 ≤ 60 := by have := hX.2.2.2.1; have := this.1; have := hX.2.2.2.1.2.1; omega
  have ee : (100 : Int) + (k : Int) = enc (-1 - (k : Int)) := by unfold enc; rw [if_pos (by omega)]; omega
  refine CtE.of (by decide) (EL.c1 rfl (EL.c1 rfl EL.n0)) (fun Γ h hq hnm hde => ?_)
  refine v_aload_n (n' := 1) h dX0_takeAway_0 rfl rfl ?_
  refine v_bipush (n' := 3) h dX0_takeAway_1 rfl (by decide) ?_
  refine v_iload_n (n' := 4) h dX0_takeAway_3 rfl rfl ?_
  refine v_iadd (n' := 5) h dX0_takeAway_4 rfl ?_
  rw [ee]
  refine vc_callV (n' := 8) (ci := 0) h ((c_write de hp W ax A t kt σ ad s hH h5 (enc (-1 - (k : Int)))).d hde) rfl (by first | assumption | exact upH_s | exact (upH_n (by assumption)).trans (by assumption) | exact (upH_n (by assumption)).trans upH_s | exact (upH_n (by assumption)).trans ((upH_n (by assumption)).trans (by assumption))) (lw_V q556 q558 qs12 q82 q559) hdX0_write ⟨by omega, by decide⟩ ⟨by omega, by omega⟩ (Nat.le_of_ble_eq_true rfl) dX0_takeAway_5 rfl (eV fun hp5 p5 => ?_) rfl
  obtain ⟨H5, F5⟩ := p5
  have hax5 := H5.1.1
  have ht5 := H5.2.2.1.1
  refine v_aload_n (n' := 9) h dX0_takeAway_8 rfl rfl ?_
  refine v_get (n' := 12) (ci := 0) h rfl in_X0 0 (by decide) q188 rfl dX0_takeAway_9 rfl (by first | assumption | exact upH_s | exact (upH_n (by assumption)).trans (by assumption) | exact (upH_n (by assumption)).trans upH_s | exact (upH_n (by assumption)).trans ((upH_n (by assumption)).trans (by assumption))) (by rfl) ?_
  refine v_iload_n (n' := 13) h dX0_takeAway_12 rfl rfl ?_
  refine vc_callV (n' := 16) (ci := 1) h ((c_take de hp5 W t ad _ _ _ _ _ _ H5.2.2.1 H5.2.1 hs hz (hB.le (by omega)) hab hfee k hk).d hde) rfl (by first | assumption | exact upH_s | exact (upH_n (by assumption)).trans (by assumption) | exact (upH_n (by assumption)).trans upH_s | exact (upH_n (by assumption)).trans ((upH_n (by assumption)).trans (by assumption))) (lw_V q729 q730 q731 q83 q732) hdX1_take ⟨by omega, by decide⟩ ⟨by omega, by omega⟩ (Nat.le_of_ble_eq_true rfl) dX0_takeAway_13 rfl (eI fun z13 hp13 p13 => ?_) rfl
  obtain ⟨ez13, T13, F13, hck⟩ := p13
  subst ez13
  refine v_pop (n' := 17) h dX0_takeAway_16 rfl rfl ?_
  refine v_vret h hq dX0_takeAway_17 (by omega) (by omega) (ret_v ?_)
  exact ⟨⟨_, H5.tr (s' := setC s (shTake (sA s) (sB s) (sF s) (sC s) k)) F13 T13 ⟨rfl, rfl, rfl, rfl, rfl, rfl⟩, hX.wr ⟨rfl, rfl, rfl, rfl, rfl⟩⟩, hck⟩
theorem sh_ne {s : SS} {n : Int} (hi : SInv s n) {k : Nat} (hk : k ∈ tl (sC s).1.1) : sSh s ≠ 0 := by
  obtain ⟨-, -, -, i4, -⟩ := hi
  rcases i4 with q | q
  · rw [q.2.2.1] at hk; simp at hk
  · omega
theorem k_take (de : Nat) (hp : AH) (ax : Nat) (s : SS) (n : Int) (hC : CRel de hp ax s) (hi : SInv s n) (hn : n ≤ 64) (key : Int) (hk : -2147483648 ≤ key ∧ key ≤ 2147483647) : CtE de yX0_take cX0_take 3 (some .int) (rmK 64 12 264) [.ref ax, .int (iI key)] hp (rI (fun r hp' => r = (oTake s key).1 ∧ CRel de hp' ax (oTake s key).2)) := by
  have hC2 := hC
  obtain ⟨W, A, t, kt, σ, ad, hH, hX⟩ := hC2
  have hx := hH.1.1
  have hTT := hH.2.2.1
  have ht := hTT.1
  obtain ⟨hs, hz1, hB, hk1, hab, -⟩ := tr_all hi hn
  have cf := c_find de hp W ad _ _ _ hTT.2.2 hs t _ _ _ _ _ _ _ _ _ ht key hk
  unfold oTake
  refine CtE.of (by decide) (EL.c1 rfl (EL.c1 rfl (EL.nn EL.n0))) (fun Γ h hq hnm hde => ?_)
  by_cases c : there s key
  · rw [fnd_some c] at cf
    rw [if_pos c] at hq
    obtain ⟨hab, hfee⟩ := hab (sh_ne hi c.2)
    obtain ⟨l1, r1, hcy, -, -, hK⟩ := hTT.2.2.at c.2
    obtain ⟨kn, rfl⟩ : ∃ kn : Nat, key = (kn : Int) := ⟨key.toNat, by omega⟩
    have c2 : kn ∈ tl (sC s).1.1 := by have := c.2; rw [Int.toNat_natCast] at this; exact this
    rw [Int.toNat_natCast] at cf hcy hK hq
    refine v_aload_n (n' := 1) h dX0_take_0 rfl rfl ?_
    refine v_get (n' := 4) (ci := 0) h rfl in_X0 0 (by decide) q188 rfl dX0_take_1 rfl (by first | assumption | exact upH_s | exact (upH_n (by assumption)).trans (by assumption) | exact (upH_n (by assumption)).trans upH_s | exact (upH_n (by assumption)).trans ((upH_n (by assumption)).trans (by assumption))) (by rfl) ?_
    refine v_iload_n (n' := 5) h dX0_take_4 rfl rfl ?_
    refine vc_callV (n' := 8) (ci := 1) h ((cf).d hde) rfl (by first | assumption | exact upH_s | exact (upH_n (by assumption)).trans (by assumption) | exact (upH_n (by assumption)).trans upH_s | exact (upH_n (by assumption)).trans ((upH_n (by assumption)).trans (by assumption))) (lw_V q610 q611 q612 q83 q613) hdX1_find ⟨by omega, by decide⟩ ⟨by omega, by omega⟩ (Nat.le_of_ble_eq_true rfl) dX0_take_5 rfl (eQ fun z5 hp5 p5 => ?_) rfl
    obtain ⟨ez5, fz5⟩ := p5
    have ez5 := ez5.symm
    have fz5 := fz5.symm
    subst ez5 fz5
    refine v_astore2Q (n' := 9) h dX0_take_8 rfl rfl ?_
    show V Γ 0 0 hp 9 [some (.ref ax), some (.int (iI kn)), some (.ref (ad kn))] []
    refine v_aload_n (n' := 10) h dX0_take_9 rfl rfl ?_
    refine v_ifnonnullR (tgt := 16) h dX0_take_10 rfl ?_
    refine v_aload_n (n' := 17) h dX0_take_16 rfl rfl ?_
    refine v_mayBeTaken (n' := 20) h (by first | assumption | exact upH_s | exact (upH_n (by assumption)).trans (by assumption) | exact (upH_n (by assumption)).trans upH_s | exact (upH_n (by assumption)).trans ((upH_n (by assumption)).trans (by assumption))) (by omega) q716 dX0_take_17 rfl (Nat.le_of_ble_eq_true rfl) ⟨by omega, by omega⟩ (by omega) ?_
    refine v_bif_ne (n' := 23) (tgt := 26) h dX0_take_20 rfl rfl (fun c20 => ?_) (fun c20 => ?_)
    · refine v_aload_n (n' := 27) h dX0_take_26 rfl rfl ?_
      refine v_iload_n (n' := 28) h dX0_take_27 rfl rfl ?_
      refine vc_callV (n' := 31) (ci := 0) h ((c_takeAway de hp W ax A t kt σ ad s hH hX hs hz1 hB hab hfee kn c2).d hde) rfl (by first | assumption | exact upH_s | exact (upH_n (by assumption)).trans (by assumption) | exact (upH_n (by assumption)).trans upH_s | exact (upH_n (by assumption)).trans ((upH_n (by assumption)).trans (by assumption))) (lw_V q725 q727 qs24 q82 q728) hdX0_takeAway ⟨by omega, by decide⟩ ⟨by omega, by omega⟩ (Nat.le_of_ble_eq_true rfl) dX0_take_28 rfl (eV fun hp28 p28 => ?_) rfl
      obtain ⟨⟨σ', H28, X28⟩, l2, r2, hc28⟩ := p28
      refine v_aload_n (n' := 32) h dX0_take_31 rfl rfl ?_
      refine v_eval (n' := 35) h q427 dX0_take_32 rfl (by first | assumption | exact upH_s | exact (upH_n (by assumption)).trans (by assumption) | exact (upH_n (by assumption)).trans upH_s | exact (upH_n (by assumption)).trans ((upH_n (by assumption)).trans (by assumption))) (by omega) ?_
      refine v_iret h hq dX0_take_35 (by omega) (by omega) (ret_i ?_)
      rw [if_neg (by omega)]; exact ⟨rfl, W, A, t, kt, σ', ad, H28, X28⟩
    · refine v_bipush (n' := 25) h dX0_take_23 rfl (by decide) ?_
      refine v_iret h hq dX0_take_25 (by omega) (by omega) (ret_i ?_)
      rw [if_pos (by omega)]; exact ⟨rfl, hC⟩
  · rw [fnd_none c] at cf
    rw [if_neg c] at hq
    refine v_aload_n (n' := 1) h dX0_take_0 rfl rfl ?_
    refine v_get (n' := 4) (ci := 0) h rfl in_X0 0 (by decide) q188 rfl dX0_take_1 rfl (by first | assumption | exact upH_s | exact (upH_n (by assumption)).trans (by assumption) | exact (upH_n (by assumption)).trans upH_s | exact (upH_n (by assumption)).trans ((upH_n (by assumption)).trans (by assumption))) (by rfl) ?_
    refine v_iload_n (n' := 5) h dX0_take_4 rfl rfl ?_
    refine vc_callV (n' := 8) (ci := 1) h ((cf).d hde) rfl (by first | assumption | exact upH_s | exact (upH_n (by assumption)).trans (by assumption) | exact (upH_n (by assumption)).trans upH_s | exact (upH_n (by assumption)).trans ((upH_n (by assumption)).trans (by assumption))) (lw_V q610 q611 q612 q83 q613) hdX1_find ⟨by omega, by decide⟩ ⟨by omega, by omega⟩ (Nat.le_of_ble_eq_true rfl) dX0_take_5 rfl (eQ fun z5 hp5 p5 => ?_) rfl
    obtain ⟨ez5, fz5⟩ := p5
    have ez5 := ez5.symm
    have fz5 := fz5.symm
    subst ez5 fz5
    refine v_astore2Q (n' := 9) h dX0_take_8 rfl rfl ?_
    show V Γ 0 0 hp 9 [some (.ref ax), some (.int (iI key)), some .null] []
    refine v_aload_nN (n' := 10) h dX0_take_9 rfl rfl ?_
    refine v_ifnonnullZ (n' := 13) h dX0_take_10 rfl ?_
    refine v_bipush (n' := 15) h dX0_take_13 rfl (by decide) ?_
    refine v_iret h hq dX0_take_15 (by omega) (by omega) (ret_i ?_)
    exact ⟨rfl, hC⟩
theorem k_flatten (de : Nat) (hp : AH) (ax : Nat) (s : SS) (n : Int) (hC : CRel de hp ax s) (hi : SInv s n) (hn : n ≤ 64) : CtE de yX0_flatten cX0_flatten 1 (some .int) (rmK 61 6 132) [.ref ax] hp (rI (fun r hp' => r = (oFlatten s).1 ∧ CRel de hp' ax (oFlatten s).2)) := by
  have hC2 := hC
  obtain ⟨W, A, t, kt, σ, ad, hH, hX⟩ := hC2
  have hr := x_r hX hi hn
  have hx := hH.1.1
  have hTT := hH.2.2.1
  have ht := hTT.1
  have e1 : σ.1 1 = sSh s := hX.1
  obtain ⟨hs, hz1, hB, hk1, hab, -⟩ := tr_all hi hn
  unfold oFlatten
  refine CtE.of (by decide) (EL.c1 rfl EL.n0) (fun Γ h hq hnm hde => ?_)
  by_cases h0 : tz (sC s).1.1 = 0
  · rw [if_pos h0] at hq
    refine v_aload_n (n' := 1) h dX0_flatten_0 rfl rfl ?_
    refine vc_callV (n' := 4) (ci := 0) h ((c_isShelf de hp ax A t kt σ hx (by omega)).d hde) rfl (by first | assumption | exact upH_s | exact (upH_n (by assumption)).trans (by assumption) | exact (upH_n (by assumption)).trans upH_s | exact (upH_n (by assumption)).trans ((upH_n (by assumption)).trans (by assumption))) (lw_V q684 q686 qs22 q82 q687) hdX0_isShelf ⟨by omega, by decide⟩ ⟨by omega, by omega⟩ (Nat.le_of_ble_eq_true rfl) dX0_flatten_1 rfl (eI fun z1 hp1 p1 => ?_) rfl
    obtain ⟨ez1, fz1⟩ := p1
    have ez1 := ez1.symm
    have fz1 := fz1.symm
    subst ez1 fz1
    refine v_bif_ne (n' := 7) (tgt := 10) h dX0_flatten_4 rfl rfl (fun c4 => ?_) (fun c4 => ?_)
    · refine v_aload_n (n' := 11) h dX0_flatten_10 rfl rfl ?_
      refine v_get (n' := 14) (ci := 0) h rfl in_X0 0 (by decide) q188 rfl dX0_flatten_11 rfl (by first | assumption | exact upH_s | exact (upH_n (by assumption)).trans (by assumption) | exact (upH_n (by assumption)).trans upH_s | exact (upH_n (by assumption)).trans ((upH_n (by assumption)).trans (by assumption))) (by rfl) ?_
      refine v_getN (n' := 17) (ci := 1) h rfl in_X1 4 (by decide) q127 rfl dX0_flatten_14 rfl (by first | assumption | exact upH_s | exact (upH_n (by assumption)).trans (by assumption) | exact (upH_n (by assumption)).trans upH_s | exact (upH_n (by assumption)).trans ((upH_n (by assumption)).trans (by assumption))) (by rfl) ?_
      refine v_if_ne (n' := 20) (tgt := 24) h dX0_flatten_17 rfl rfl (by omega) (fun c17 => ?_) (fun c17 => ?_)
      · omega
      · refine v_iconst (n' := 21) h dX0_flatten_20 rfl ?_
        refine v_goto (tgt := 39) h dX0_flatten_21 rfl ?_
        refine v_iret h hq dX0_flatten_39 (by omega) (by omega) (ret_i ?_)
        rw [if_neg (by omega)]; exact ⟨by dsimp only; omega, hC⟩
    · refine v_bipush (n' := 9) h dX0_flatten_7 rfl (by decide) ?_
      refine v_iret h hq dX0_flatten_9 (by omega) (by omega) (ret_i ?_)
      rw [if_pos (by omega)]; exact ⟨rfl, hC⟩
  · rw [if_neg h0] at hq
    obtain ⟨k0, hk0⟩ : ∃ k0, ro (sC s).1.1 = some k0 := by
      cases hD : (sC s).1.1 with
      | leaf u => rw [hD] at h0; exact absurd rfl h0
      | branch y l r => exact ⟨y, rfl⟩
    have hsub : sub (sC s).1.1 k0 = (sC s).1.1 := by
      cases hD : (sC s).1.1 with
      | leaf u => rw [hD] at hk0; cases hk0
      | branch y l r => rw [hD] at hk0; cases hk0; rw [sub_br, if_pos rfl]
    have cb := c_build de hp W t ad _ _ _ _ _ _ hTT hH.2.1 hs (by omega) (hB.le (by omega)) k0 (ro_mem hk0)
    rw [pa_root hk0, hsub, gr_rootO hk0] at cb
    have hro : (ro (sC s).1.1).map ad = some (ad k0) := by rw [hk0]; rfl
    have ht2 : hp t = some (tO (some (ad k0)) (sA s) (sB s) (sF s) (tz (sC s).1.1 : Int) (sC s).1.2.1 (sC s).1.2.2.2.2.1 (sC s).1.2.2.2.2.2 (sC s).1.2.2.1 (sC s).1.2.2.2.1) := by rw [← hro]; exact ht
    clear ht
    refine v_aload_n (n' := 1) h dX0_flatten_0 rfl rfl ?_
    refine vc_callV (n' := 4) (ci := 0) h ((c_isShelf de hp ax A t kt σ hx (by omega)).d hde) rfl (by first | assumption | exact upH_s | exact (upH_n (by assumption)).trans (by assumption) | exact (upH_n (by assumption)).trans upH_s | exact (upH_n (by assumption)).trans ((upH_n (by assumption)).trans (by assumption))) (lw_V q684 q686 qs22 q82 q687) hdX0_isShelf ⟨by omega, by decide⟩ ⟨by omega, by omega⟩ (Nat.le_of_ble_eq_true rfl) dX0_flatten_1 rfl (eI fun z1 hp1 p1 => ?_) rfl
    obtain ⟨ez1, fz1⟩ := p1
    have ez1 := ez1.symm
    have fz1 := fz1.symm
    subst ez1 fz1
    refine v_bif_ne (n' := 7) (tgt := 10) h dX0_flatten_4 rfl rfl (fun c4 => ?_) (fun c4 => ?_)
    · refine v_aload_n (n' := 11) h dX0_flatten_10 rfl rfl ?_
      refine v_get (n' := 14) (ci := 0) h rfl in_X0 0 (by decide) q188 rfl dX0_flatten_11 rfl (by first | assumption | exact upH_s | exact (upH_n (by assumption)).trans (by assumption) | exact (upH_n (by assumption)).trans upH_s | exact (upH_n (by assumption)).trans ((upH_n (by assumption)).trans (by assumption))) (by rfl) ?_
      refine v_getN (n' := 17) (ci := 1) h rfl in_X1 4 (by decide) q127 rfl dX0_flatten_14 rfl (by first | assumption | exact upH_s | exact (upH_n (by assumption)).trans (by assumption) | exact (upH_n (by assumption)).trans upH_s | exact (upH_n (by assumption)).trans ((upH_n (by assumption)).trans (by assumption))) (by rfl) ?_
      refine v_if_ne (n' := 20) (tgt := 24) h dX0_flatten_17 rfl rfl (by omega) (fun c17 => ?_) (fun c17 => ?_)
      · refine v_aload_n (n' := 25) h dX0_flatten_24 rfl rfl ?_
        refine v_get (n' := 28) (ci := 0) h rfl in_X0 0 (by decide) q188 rfl dX0_flatten_25 rfl (by first | assumption | exact upH_s | exact (upH_n (by assumption)).trans (by assumption) | exact (upH_n (by assumption)).trans upH_s | exact (upH_n (by assumption)).trans ((upH_n (by assumption)).trans (by assumption))) (by rfl) ?_
        refine v_null (n' := 29) h dX0_flatten_28 rfl ?_
        refine v_aload_n (n' := 30) h dX0_flatten_29 rfl rfl ?_
        refine v_get (n' := 33) (ci := 0) h rfl in_X0 0 (by decide) q188 rfl dX0_flatten_30 rfl (by first | assumption | exact upH_s | exact (upH_n (by assumption)).trans (by assumption) | exact (upH_n (by assumption)).trans upH_s | exact (upH_n (by assumption)).trans ((upH_n (by assumption)).trans (by assumption))) (by rfl) ?_
        refine v_getN (n' := 36) (ci := 1) h rfl in_X1 0 (by decide) q119 rfl dX0_flatten_33 rfl (by first | assumption | exact upH_s | exact (upH_n (by assumption)).trans (by assumption) | exact (upH_n (by assumption)).trans upH_s | exact (upH_n (by assumption)).trans ((upH_n (by assumption)).trans (by assumption))) (by rfl) ?_
        refine vc_callV (n' := 39) (ci := 1) h ((cb).d hde) rfl (by first | assumption | exact upH_s | exact (upH_n (by assumption)).trans (by assumption) | exact (upH_n (by assumption)).trans upH_s | exact (upH_n (by assumption)).trans ((upH_n (by assumption)).trans (by assumption))) (lw_V q770 q593 q594 q83 q595) hdX1_build ⟨by omega, by decide⟩ ⟨by omega, by omega⟩ (Nat.le_of_ble_eq_true rfl) dX0_flatten_36 rfl (eI fun z36 hp36 p36 => ?_) rfl
        obtain ⟨ez36, T36, F36⟩ := p36
        subst ez36
        refine v_iret h hq dX0_flatten_39 (by omega) (by omega) (ret_i ?_)
        rw [if_neg (by omega)]; exact ⟨rfl, W, A, t, kt, σ, ad, hH.tr F36 T36 ⟨rfl, rfl, rfl, rfl, rfl, rfl⟩, hX⟩
      · omega
    · refine v_bipush (n' := 9) h dX0_flatten_7 rfl (by decide) ?_
      refine v_iret h hq dX0_flatten_9 (by omega) (by omega) (ret_i ?_)
      rw [if_pos (by omega)]; exact ⟨rfl, hC⟩
