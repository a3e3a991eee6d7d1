/-! THE CLASS: sorts -/
set_option maxRecDepth 100000
/-- the list of samples grows: all else stays -/
theorem CH.smp {de : Nat} {hp hp1 : AH} {W : Nat → Prop} {ax : Nat} {A : Nat → Nat} {t : Nat} {kt : Option Nat} {σ : MS} {ad : Nat → Nat} {s : SS} (h : CH de hp W ax A t kt σ ad s) {arr0 a1 : Nat} {m n : Int} (hA : hp (A 10) = some (lO m n a1)) (ha : arr0 = A 10 ∨ ∃ N f, hp arr0 = some (aQ N f))
    (f : Frm (fun q => q = A 10 ∨ q = arr0 ∨ hp q = none) hp hp1) {xs : List Nat} (hl : Ls hp1 (fun q => q = A 10 ∨ q = arr0 ∨ hp q = none) de (A 10) xs) (hx : xs.length ≤ 5) (hW10 : ¬ W (A 10)) (hWa : ¬ W arr0) (he : ∀ i y, xs[i]? = some y → hp1 y = some (eO i 0 0 none none) ∧ (hp y = none ∨ ¬ W y)) :
    CH de hp1 (fun q => (W q ∧ hp q ≠ none) ∨ hp1 q = none) ax A t kt σ ad s := by
  obtain ⟨h1, h2, h3, h5, h6⟩ := h
  have ex : ∀ q e, hp q = some e → (∀ m n a, e ≠ lO m n a) → (∀ N f, e ≠ aQ N f) → hp1 q = some e := fun q e hq c1 c2 => f.at hq (fun z => by
    rcases z with z | z | z
    · rw [z, hA] at hq; exact c1 _ _ _ (Option.some.inj hq).symm
    · rw [z] at hq
      rcases ha with q1 | ⟨N, g, q1⟩
      · rw [q1, hA] at hq; exact c1 _ _ _ (Option.some.inj hq).symm
      · rw [q1] at hq; exact c2 _ _ (Option.some.inj hq).symm
    · rw [z] at hq; cases hq)
  have nw : ∀ q e, hp1 q = some e → (hp q = none ∨ ¬ W q) → ¬ ((W q ∧ hp q ≠ none) ∨ hp1 q = none) := fun q e hq hw c => by
    rcases c with c | c
    · rcases hw with hw | hw
      · exact c.2 hw
      · exact hw c.1
    · rw [hq] at c; cases c
  have exE : ∀ {kd : Nat} {x v : Int} {l r : Option Nat} (q : Nat), kd < 5 → hp q = some (eO kd x v l r) → hp1 q = some (eO kd x v l r) := fun q hk hq => ex q _ hq (fun m n a z => eO_ne_t (by decide) hk z) (fun N f z => by cases z)
  have exX := ex _ _ h1.1 (fun m n a z => by have := congrArg Prod.fst (Sum.inr.inj z); simp at this) (fun N f z => by cases z)
  have exA : ∀ i, xLen i ≠ 0 → hp1 (A i) = some (xA σ i) := fun i hi => ex _ _ (h1.2.2.1 i hi).1 (fun m n a z => by cases z) (fun N g z => by have q := congrArg (fun p : ClassId × vp_A => p.2.2) (Sum.inl.inj z); cases q)
  have exT : ∀ {top : Option Nat} {a b c d e f g h k : Int} (q : Nat), hp q = some (tO top a b c d e f g h k) → hp1 q = some (tO top a b c d e f g h k) := fun q hq => ex q _ hq (fun m n a z => by have := congrArg Prod.fst (Sum.inr.inj z); simp at this) (fun N f z => by cases z)
  refine ⟨⟨exX, nw _ _ exX (Or.inr h1.2.1), fun i hi => ⟨exA i hi, nw _ _ (exA i hi) (Or.inr (h1.2.2.1 i hi).2)⟩, h1.2.2.2⟩, fun q hq => Or.inr hq, ?_, ?_, ?_⟩
  · obtain ⟨t1, t2, t3⟩ := h3
    refine ⟨exT _ t1, Or.inl ⟨t2, by rw [t1]; exact fun z => by cases z⟩, t3.cg (fun x hx => ?_)⟩
    obtain ⟨_, _, q1, _, _, q4⟩ := t3.at hx
    exact ⟨rfl, rfl, rfl, (exE _ (by omega) q1).trans q1.symm, fun w => Or.inl ⟨w, by rw [q1]; exact fun z => by cases z⟩⟩
  · obtain ⟨arr, k1, k2, k3⟩ := hl
    refine ⟨xs, ⟨arr, k1, nw _ _ k1 (Or.inr hW10), k3.imp id (fun q => ⟨q.1, nw _ _ q.2.2 ?_, q.2.2⟩)⟩, hx, fun i y hy => ⟨(he i y hy).1, nw _ _ (he i y hy).1 (he i y hy).2⟩⟩
    rcases q.2.1 with c | c | c
    · rw [c]; exact Or.inr hW10
    · rw [c]; exact Or.inr hWa
    · exact Or.inl c
  · rcases h6 with h6 | ⟨kk, q1, q2, q3⟩
    · exact Or.inl h6
    · refine Or.inr ⟨kk, q1, q2, fun z => ?_⟩
      obtain ⟨adk, ⟨r1, r2, r3⟩, r4⟩ := q3 z
      refine ⟨adk, ⟨exT _ r1, nw _ _ (exT _ r1) (Or.inr r2), r3.cg (fun x hx => ?_)⟩, r4⟩
      obtain ⟨_, _, p1, p2, _, p4⟩ := r3.at hx
      exact ⟨rfl, rfl, rfl, (exE _ (by omega) p1).trans p1.symm, fun _ => nw _ _ (exE _ (by omega) p1) (Or.inr p2)⟩
theorem c_wouldDo (de : Nat) (hp : AH) (W : Nat → Prop) (ax : Nat) (A : Nat → Nat) (t : Nat) (kt : Option Nat) (σ : MS) (ad : Nat → Nat) (s : SS) (hH : CH de hp W ax A t kt σ ad s) (kd : Nat) (hkd : kd < 5) (what : Int) (hw : -2147483648 ≤ what ∧ what ≤ 2147483647) : CtE de yX0_wouldDo cX0_wouldDo 3 (some .boolean) (rmK 9 6 30) [.ref ax, .int (iI kd), .int (iI what)] hp (rI (fun z hp' => z = bi (coP what kd) ∧ ∃ W', CH de hp' W' ax A t kt σ ad s)) := by
  have hx := hH.1.1
  obtain ⟨xs0, ⟨arr0, L1, L2, L3⟩, L4, L5⟩ := hH.2.2.2.1
  obtain ⟨a0, ha0, hWa0, hLs⟩ : ∃ a0, (a0 = A 10 ∨ ∃ N f, hp a0 = some (aQ N f)) ∧ ¬ W a0 ∧ Ls hp (fun q => q = A 10 ∨ q = a0 ∨ hp q = none) de (A 10) xs0 := by
    rcases L3 with q | q
    · exact ⟨A 10, Or.inl rfl, L2, arr0, L1, Or.inl rfl, Or.inl q⟩
    · exact ⟨arr0, Or.inr ⟨_, _, q.2.2⟩, q.2.1, arr0, L1, Or.inl rfl, Or.inr ⟨q.1, Or.inr (Or.inl rfl), q.2.2⟩⟩
  have hax : ¬ (ax = A 10 ∨ ax = a0 ∨ hp ax = none) := fun c => by
    rcases c with c | c | c
    · rw [← c, hx] at L1
      have := congrArg Prod.fst (Sum.inr.inj (Option.some.inj L1)); simp at this
    · rcases ha0 with q | ⟨N, g, q⟩
      · rw [← q, ← c, hx] at L1
        have := congrArg Prod.fst (Sum.inr.inj (Option.some.inj L1)); simp at this
      · rw [← c, hx] at q; cases q
    · rw [hx] at c; cases c
  refine CtE.of (by decide) (EL.c1 rfl (EL.c1 rfl (EL.c1 rfl EL.n0))) (fun Γ h hq hnm hde => ?_)
  have loop : ∀ (m : Nat) (hp1 : AH) (xs : List Nat), xs.length + m = 5 → Frm (fun q => q = A 10 ∨ q = a0 ∨ hp q = none) hp hp1 → Ls hp1 (fun q => q = A 10 ∨ q = a0 ∨ hp q = none) de (A 10) xs → (∀ i y, xs[i]? = some y → hp1 y = some (eO i 0 0 none none) ∧ (hp y = none ∨ ¬ W y)) → V Γ (1 * xs.length + acC xs.length) (4 * xs.length + acS xs.length) hp1 0 [some (.ref ax), some (.int (iI kd)), some (.int (iI what))] [] := by
    intro m
    induction m with
    | zero =>
      intro hp1 xs hm F1 Ls1 E1
      have hx1 := F1.at hx hax
      have hl5 : xs.length = 5 := by omega
      obtain ⟨arr, hl1⟩ := Ls1.len
      obtain ⟨y, hy⟩ : ∃ y, xs[kd]? = some y := ⟨_, List.getElem?_eq_getElem (by omega)⟩
      obtain ⟨ey, -⟩ := E1 kd y hy
      have aa : acC 5 = 1 ∧ acS 5 = 10 := by decide
      rw [hl5] at hl1 ⊢
      rw [aa.1, aa.2]
      refine v_aload_n (n' := 1) h dX0_wouldDo_0 rfl rfl ?_
      refine v_get (n' := 4) (ci := 0) h rfl in_X0 10 (by decide) q200 rfl dX0_wouldDo_1 rfl (by first | assumption | exact upH_s | exact (upH_n (by assumption)).trans (by assumption) | exact (upH_n (by assumption)).trans upH_s | exact (upH_n (by assumption)).trans ((upH_n (by assumption)).trans (by assumption))) (by rfl) ?_
      refine vc_callV (n' := 7) (ci := 10) h ((c_size de hp1 (A 10) _ _ arr hl1).d hde) rfl (by first | assumption | exact upH_s | exact (upH_n (by assumption)).trans (by assumption) | exact (upH_n (by assumption)).trans upH_s | exact (upH_n (by assumption)).trans ((upH_n (by assumption)).trans (by assumption))) (lw_V q550 q394 q395 q86 q396) hdJ2_size ⟨by omega, by decide⟩ ⟨by omega, by omega⟩ (Nat.le_of_ble_eq_true rfl) dX0_wouldDo_4 rfl (eI fun z4 hp4 p4 => ?_) rfl
      obtain ⟨ez4, fz4⟩ := p4
      have ez4 := ez4.symm
      have fz4 := fz4.symm
      subst ez4 fz4
      refine v_iconst (n' := 8) h dX0_wouldDo_7 rfl ?_
      refine v_icmp_ge (n' := 11) (tgt := 34) h dX0_wouldDo_8 rfl rfl (by omega) (by omega) (fun c8 => ?_) (fun c8 => ?_)
      · refine v_aload_n (n' := 35) h dX0_wouldDo_34 rfl rfl ?_
        refine v_get (n' := 38) (ci := 0) h rfl in_X0 10 (by decide) q200 rfl dX0_wouldDo_35 rfl (by first | assumption | exact upH_s | exact (upH_n (by assumption)).trans (by assumption) | exact (upH_n (by assumption)).trans upH_s | exact (upH_n (by assumption)).trans ((upH_n (by assumption)).trans (by assumption))) (by rfl) ?_
        refine v_iload_n (n' := 39) h dX0_wouldDo_38 rfl rfl ?_
        refine vc_callV (n' := 42) (ci := 10) h ((c_get de hp1 _ (A 10) xs kd y Ls1 hy (by omega)).d hde) rfl (by first | assumption | exact upH_s | exact (upH_n (by assumption)).trans (by assumption) | exact (upH_n (by assumption)).trans upH_s | exact (upH_n (by assumption)).trans ((upH_n (by assumption)).trans (by assumption))) (lw_V q551 q398 q399 q86 q400) hdJ2_get ⟨by omega, by decide⟩ ⟨by omega, by omega⟩ (Nat.le_of_ble_eq_true rfl) dX0_wouldDo_39 rfl (eR fun z39 hp39 p39 => ?_) rfl
        obtain ⟨ez39, fz39⟩ := p39
        have ez39 := ez39.symm
        have fz39 := fz39.symm
        subst ez39 fz39
        refine v_castE (n' := 45) h q474 dX0_wouldDo_42 rfl (by first | assumption | exact upH_s | exact (upH_n (by assumption)).trans (by assumption) | exact (upH_n (by assumption)).trans upH_s | exact (upH_n (by assumption)).trans ((upH_n (by assumption)).trans (by assumption))) (by omega) ?_
        refine v_iload_n (n' := 46) h dX0_wouldDo_45 rfl rfl ?_
        refine v_could (n' := 49) h (by omega) (by first | assumption | exact upH_s | exact (upH_n (by assumption)).trans (by assumption) | exact (upH_n (by assumption)).trans upH_s | exact (upH_n (by assumption)).trans ((upH_n (by assumption)).trans (by assumption))) (by omega) q854 dX0_wouldDo_46 rfl (Nat.le_of_ble_eq_true rfl) ⟨by omega, by omega⟩ (by omega) ?_
        refine v_zret h hq dX0_wouldDo_49 (bi_01 _) (by omega) (by omega) (ret_i ?_)
        exact ⟨rfl, _, hH.smp L1 ha0 F1 Ls1 (by omega) L2 hWa0 E1⟩
      · omega
    | succ m ih =>
      intro hp1 xs hm F1 Ls1 E1
      have hx1 := F1.at hx hax
      obtain ⟨arr, hl1⟩ := Ls1.len
      have b1 : acC (xs.length + 1) ≤ 1 ∧ acS (xs.length + 1) ≤ 10 := acMM (m := xs.length + 1) (n := 5) (by omega)
      have b2 := acM xs.length
      have Fr1 : Fre (fun q => q = A 10 ∨ q = a0 ∨ hp q = none) hp1 := F1.fre (fun q hq => Or.inr (Or.inr hq))
      obtain ⟨arrC, hl2, hlR, hl3⟩ := Ls1
      have hiE : ∀ i y, xs[i]? = some y → i < 5 := fun i y hy => by have := (List.getElem?_eq_some_iff.mp hy).1; omega
      refine v_aload_n (n' := 1) h dX0_wouldDo_0 rfl rfl ?_
      refine v_get (n' := 4) (ci := 0) h rfl in_X0 10 (by decide) q200 rfl dX0_wouldDo_1 rfl (by first | assumption | exact upH_s | exact (upH_n (by assumption)).trans (by assumption) | exact (upH_n (by assumption)).trans upH_s | exact (upH_n (by assumption)).trans ((upH_n (by assumption)).trans (by assumption))) (by rfl) ?_
      refine vc_callV (n' := 7) (ci := 10) h ((c_size de hp1 (A 10) _ _ arr hl1).d hde) rfl (by first | assumption | exact upH_s | exact (upH_n (by assumption)).trans (by assumption) | exact (upH_n (by assumption)).trans upH_s | exact (upH_n (by assumption)).trans ((upH_n (by assumption)).trans (by assumption))) (lw_V q550 q394 q395 q86 q396) hdJ2_size ⟨by omega, by decide⟩ ⟨by omega, by omega⟩ (Nat.le_of_ble_eq_true rfl) dX0_wouldDo_4 rfl (eI fun z4 hp4 p4 => ?_) rfl
      obtain ⟨ez4, fz4⟩ := p4
      have ez4 := ez4.symm
      have fz4 := fz4.symm
      subst ez4 fz4
      refine v_iconst (n' := 8) h dX0_wouldDo_7 rfl ?_
      refine v_icmp_ge (n' := 11) (tgt := 34) h dX0_wouldDo_8 rfl rfl (by omega) (by omega) (fun c8 => ?_) (fun c8 => ?_)
      · omega
      · refine v_aload_n (n' := 12) h dX0_wouldDo_11 rfl rfl ?_
        refine v_get (n' := 15) (ci := 0) h rfl in_X0 10 (by decide) q200 rfl dX0_wouldDo_12 rfl (by first | assumption | exact upH_s | exact (upH_n (by assumption)).trans (by assumption) | exact (upH_n (by assumption)).trans upH_s | exact (upH_n (by assumption)).trans ((upH_n (by assumption)).trans (by assumption))) (by rfl) ?_
        refine v_aload_n (n' := 16) h dX0_wouldDo_15 rfl rfl ?_
        refine v_get (n' := 19) (ci := 0) h rfl in_X0 10 (by decide) q200 rfl dX0_wouldDo_16 rfl (by first | assumption | exact upH_s | exact (upH_n (by assumption)).trans (by assumption) | exact (upH_n (by assumption)).trans upH_s | exact (upH_n (by assumption)).trans ((upH_n (by assumption)).trans (by assumption))) (by rfl) ?_
        refine vc_callV (n' := 22) (ci := 10) h ((c_size de hp1 (A 10) _ _ arr hl1).d hde) rfl (by first | assumption | exact upH_s | exact (upH_n (by assumption)).trans (by assumption) | exact (upH_n (by assumption)).trans upH_s | exact (upH_n (by assumption)).trans ((upH_n (by assumption)).trans (by assumption))) (lw_V q550 q394 q395 q86 q396) hdJ2_size ⟨by omega, by decide⟩ ⟨by omega, by omega⟩ (Nat.le_of_ble_eq_true rfl) dX0_wouldDo_19 rfl (eI fun z19 hp19 p19 => ?_) rfl
        obtain ⟨ez19, fz19⟩ := p19
        have ez19 := ez19.symm
        have fz19 := fz19.symm
        subst ez19 fz19
        refine v_iconst (n' := 23) h dX0_wouldDo_22 rfl ?_
        refine v_iconst (n' := 24) h dX0_wouldDo_23 rfl ?_
        refine vc_callS (n' := 27) h ((c_made de hp1 xs.length 0 0 (by omega)).d hde) (lw_S q710 q413 q82 q414) hdX0_made ⟨by omega, by decide⟩ ⟨by omega, by omega⟩ (Nat.le_of_ble_eq_true rfl) dX0_wouldDo_24 rfl (eR fun z24 hp24 p24 => ?_) rfl
        obtain ⟨n24, p24⟩ := p24
        subst p24
        have k1 : ∀ q c, hp1 q = some c → upH hp1 z24 (eO xs.length 0 0 none none) q = some c := fun q c hq => (upH_n (free_ne hq n24)).trans hq
        have hW24 : hp z24 = none ∨ ¬ W z24 := by
          rcases Fr1 z24 n24 with c | c | c
          · rw [c, hl1] at n24; cases n24
          · rw [c]; exact Or.inr hWa0
          · exact Or.inl c
        obtain ⟨aC, hLs2, haC, hcC⟩ : ∃ aC, Ls (upH hp1 z24 (eO xs.length 0 0 none none)) (fun q => q = A 10 ∨ q = aC ∨ upH hp1 z24 (eO xs.length 0 0 none none) q = none) de (A 10) xs ∧ (aC = A 10 ∨ aC = a0 ∨ hp aC = none) ∧ (aC = A 10 ∨ ∃ N f, hp1 aC = some (aQ N f)) := by
          rcases hl3 with q | q
          · exact ⟨A 10, ⟨arrC, k1 _ _ hl2, Or.inl rfl, Or.inl q⟩, Or.inl rfl, Or.inl rfl⟩
          · exact ⟨arrC, ⟨arrC, k1 _ _ hl2, Or.inl rfl, Or.inr ⟨q.1, Or.inr (Or.inl rfl), k1 _ _ q.2.2⟩⟩, q.2.1, Or.inr ⟨_, _, q.2.2⟩⟩
        have hx2 := k1 _ _ hx1
        have hl22 := k1 _ _ hl1
        have hE2 : En (upH hp1 z24 (eO xs.length 0 0 none none)) xs := by
          intro y hy
          obtain ⟨i, hi⟩ := List.getElem?_of_mem hy
          exact ⟨i, _, hiE i y hi, k1 _ _ (E1 i y hi).1⟩
        have hnR : ∀ (y i : Nat), i < 5 → upH hp1 z24 (eO xs.length 0 0 none none) y = some (eO i 0 0 none none) → ¬ (y = A 10 ∨ y = aC ∨ upH hp1 z24 (eO xs.length 0 0 none none) y = none) := fun y i hi5 hy c => by
          rcases c with c | c | c
          · rw [c, hl22] at hy
            exact eO_ne_t (by decide) hi5 (Option.some.inj hy).symm
          · rcases hcC with q | ⟨N, g, q⟩
            · rw [c, q, hl22] at hy
              exact eO_ne_t (by decide) hi5 (Option.some.inj hy).symm
            · rw [c, k1 _ _ q] at hy; cases hy
          · rw [hy] at c; cases c
        refine vc_callV (n' := 30) (ci := 10) h ((c_add de _ _ (A 10) z24 xs.length _ xs hLs2 (by omega) hE2 (fun q hq => Or.inr (Or.inr hq)) (by omega) upH_s).d hde) rfl (by first | assumption | exact upH_s | exact (upH_n (by assumption)).trans (by assumption) | exact (upH_n (by assumption)).trans upH_s | exact (upH_n (by assumption)).trans ((upH_n (by assumption)).trans (by assumption))) (lw_V q853 q483 q484 q86 q485) hdJ2_add ⟨by omega, by decide⟩ ⟨by omega, by omega⟩ (Nat.le_of_ble_eq_true rfl) dX0_wouldDo_27 rfl (eI fun z27 hp27 p27 => ?_) rfl
        obtain ⟨-, Ls27, F27⟩ := p27
        have FR : Frm (fun q => q = A 10 ∨ q = a0 ∨ hp q = none) hp hp27 := by
          refine (F1.tr (Frm.up (Fr1 z24 n24))).tr (F27.wk (fun q hq => ?_))
          rcases hq with c | c | c
          · exact Or.inl c
          · rw [c]; exact haC
          · by_cases cz : q = z24
            · rw [cz, upH_s] at c; cases c
            · rw [upH_n cz] at c; exact Fr1 q c
        have LsR : Ls hp27 (fun q => q = A 10 ∨ q = a0 ∨ hp q = none) de (A 10) (xs ++ [z24]) := by
          obtain ⟨ar, w1, w2, w3⟩ := Ls27
          refine ⟨ar, w1, Or.inl rfl, w3.imp id (fun q => ⟨q.1, ?_, q.2.2⟩)⟩
          rcases q.2.1 with c | c | c
          · exact Or.inl c
          · rw [c]; exact haC
          · by_cases cz : ar = z24
            · rw [cz, upH_s] at c; cases c
            · rw [upH_n cz] at c; exact Fr1 ar c
        have E27 : ∀ i y, (xs ++ [z24])[i]? = some y → hp27 y = some (eO i 0 0 none none) ∧ (hp y = none ∨ ¬ W y) := by
          intro i y hy
          by_cases ci : i < xs.length
          · rw [List.getElem?_append_left ci] at hy
            have q := E1 i y hy
            exact ⟨F27.at (k1 _ _ q.1) (hnR y i (hiE i y hy) (k1 _ _ q.1)), q.2⟩
          · have hi2 := (List.getElem?_eq_some_iff.mp hy).1
            rw [List.length_append, List.length_singleton] at hi2
            obtain rfl : i = xs.length := by omega
            rw [List.getElem?_append_right (Nat.le_refl _)] at hy
            simp at hy
            subst hy
            exact ⟨F27.at upH_s (hnR z24 xs.length (by omega) upH_s), hW24⟩
        refine v_pop (n' := 31) h dX0_wouldDo_30 rfl rfl ?_
        refine v_goto (tgt := 0) h dX0_wouldDo_31 rfl ?_
        refine V.widen (k2 := 1 * (xs ++ [z24]).length + acC (xs ++ [z24]).length) (n2 := 4 * (xs ++ [z24]).length + acS (xs ++ [z24]).length) ?_ ?_ (ih hp27 (xs ++ [z24]) (by rw [List.length_append, List.length_singleton]; omega) FR LsR E27)
        · rw [List.length_append, List.length_singleton]; omega
        · rw [List.length_append, List.length_singleton]; omega
  refine V.widen (Nat.zero_le _) (Nat.zero_le _) (loop (5 - xs0.length) hp xs0 (by omega) Frm.rf hLs (fun i y hy => ⟨(L5 i y hy).1, Or.inr (L5 i y hy).2⟩))
