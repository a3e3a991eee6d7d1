/-! MODEL 6: build -/
set_option maxRecDepth 100000
def mn (a b : Int) : Int := if a < b then a else b
/-- a key takes another one's place below that one's above -/
def RplP (t : Int) (T : Tr) (q : Nat) (key : Int) (σ σ1 : MS) : Prop := σ1.1 = σ.1 ∧ (∀ i, σ1.2 4 i = if key ≠ -1 ∧ i = 100 * t + key then prt T q (-1) else σ.2 4 i) ∧
  (∀ x : Nat, x < 100 → σ1.2 2 (100 * t + (x : Int)) = if (x : Int) = prt T q (-1) ∧ q < x then key else σ.2 2 (100 * t + (x : Int))) ∧ (∀ x : Nat, x < 100 → σ1.2 3 (100 * t + (x : Int)) = if (x : Int) = prt T q (-1) ∧ x < q then key else σ.2 3 (100 * t + (x : Int))) ∧
  σ1.2 6 t = (if rk T = (q : Int) then key else σ.2 6 t) ∧ (∀ f i, ¬ (f = 2 ∨ f = 3 ∨ f = 4 ∨ f = 6) → σ1.2 f i = σ.2 f i) ∧ Fr t σ σ1
theorem prt_r {T : Tr} {q : Nat} (hs : Srt T) (hq : q ∈ tl T) (hb : ∀ x ∈ tl T, x < 100) : -1 ≤ prt T q (-1) ∧ prt T q (-1) < 100 ∧ (rk T = (q : Int) ↔ prt T q (-1) = -1) := by
  rcases prt_root hs hq (on := -1) with ⟨h1, h2⟩ | ⟨h1, p, h2, h3⟩
  · exact ⟨by omega, by omega, fun _ => h2, fun _ => h1⟩
  · have := hb p h2
    exact ⟨by omega, by omega, fun z => absurd z h1, fun z => by omega⟩
/-- where a key hangs, in the rows -/
def PS (σ : MS) (t : Int) (T : Tr) (q : Nat) : Prop := σ.2 4 (100 * t + (q : Int)) = prt T q (-1) ∧ ((rk T = (q : Int) ∧ prt T q (-1) = -1) ∨ ∃ p : Nat, p ∈ tl T ∧ prt T q (-1) = (p : Int) ∧ p ∉ tl (sub T q) ∧ ((q < p ∧ σ.2 2 (100 * t + (p : Int)) = (q : Int)) ∨ (p < q ∧ σ.2 3 (100 * t + (p : Int)) = (q : Int) ∧ σ.2 2 (100 * t + (p : Int)) ≠ (q : Int))))
theorem repl_spec2 {σ : MS} {t : Int} {T : Tr} {q : Nat} {key : Int} (hps : PS σ t T q) (hs : Srt T) (hb : ∀ x ∈ tl T, x < 100) (hq : q ∈ tl T) (hk : -1 ≤ key ∧ key < 100) : RplP t T q key σ (replS σ t (q : Int) key) := by
  obtain ⟨s1, s2⟩ := hps
  have hr := prt_r hs hq hb
  unfold replS
  rw [s1]
  rcases s2 with ⟨a1, a2⟩ | ⟨p, p1, p2, p3, p4⟩
  · rw [a2]
    have e1 : ¬ ((-1 : Int) ≠ -1 ∧ σ.2 2 (100 * t + -1) = (q : Int)) := fun z => z.1 rfl
    have e2 : ¬ ((-1 : Int) ≠ -1) := fun z => z rfl
    rw [if_neg e1, if_neg e2]
    refine ⟨hangS_1, fun i => by rw [hangS_4, a2], fun x hx => by rw [hangS_o _ (by decide), if_neg (by omega)], fun x hx => by rw [hangS_o _ (by decide), if_neg (by omega)], by rw [hangS_6, if_pos ⟨rfl, rfl⟩, if_pos a1], fun f i hf => hangS_o i (by omega), Fr.hang hk⟩
  · rw [p2]
    have hp100 := hb p p1
    have e2 : (p : Int) ≠ -1 := by omega
    have nr : ¬ rk T = (q : Int) := fun z => by have := hr.2.2.mp z; omega
    rcases p4 with ⟨b1, b2⟩ | ⟨b1, b2, b3⟩
    · rw [if_pos ⟨e2, b2⟩]
      refine ⟨hangS_1, fun i => by rw [hangS_4, setA_2o (by decide), p2], fun x hx => ?_, fun x hx => ?_, ?_, fun f i hf => ?_, (Fr.sA (by unfold wr; omega)).trans (Fr.hang hk)⟩
      · rw [hangS_o _ (by decide), setA_2, p2]
        by_cases c : x = p
        · subst c; rw [if_pos ⟨rfl, rfl⟩, if_pos ⟨rfl, b1⟩]
        · rw [if_neg (by omega), if_neg (by omega)]
      · rw [hangS_o _ (by decide), setA_2o (by decide), if_neg (by omega)]
      · rw [hangS_6, if_neg (by omega), if_neg nr, setA_2o (by decide)]
      · rw [hangS_o i (by omega), setA_2o (by omega)]
    · rw [if_neg (fun z => b3 z.2), if_pos e2]
      refine ⟨hangS_1, fun i => by rw [hangS_4, setA_2o (by decide), p2], fun x hx => ?_, fun x hx => ?_, ?_, fun f i hf => ?_, (Fr.sA (by unfold wr; omega)).trans (Fr.hang hk)⟩
      · rw [hangS_o _ (by decide), setA_2o (by decide), if_neg (by omega)]
      · rw [hangS_o _ (by decide), setA_2, p2]
        by_cases c : x = p
        · subst c; rw [if_pos ⟨rfl, rfl⟩, if_pos ⟨rfl, b1⟩]
        · rw [if_neg (by omega), if_neg (by omega)]
      · rw [hangS_6, if_neg (by omega), if_neg nr, setA_2o (by decide)]
      · rw [hangS_o i (by omega), setA_2o (by omega)]
theorem repl_spec {σ : MS} {t : Int} {T : Tr} {q : Nat} {key : Int} (hR : RepT σ t (-1) T) (hs : Srt T) (hb : ∀ x ∈ tl T, x < 100) (hq : q ∈ tl T) (hk : -1 ≤ key ∧ key < 100) : RplP t T q key σ (replS σ t (q : Int) key) := repl_spec2 (prt_spec hs hq hR) hs hb hq hk
/-- nothing to do where the key is the same -/
theorem repl_same {σ : MS} {t : Int} {T : Tr} {q : Nat} (hR : RepT σ t (-1) T) (hs : Srt T) (hq : q ∈ tl T) (h6 : σ.2 6 t = rk T) : RplP t T q (q : Int) σ σ := by
  obtain ⟨s1, s2⟩ := prt_spec hs hq hR
  refine ⟨rfl, fun i => ?_, fun x hx => ?_, fun x hx => ?_, ?_, fun _ _ _ => rfl, Fr.refl⟩
  · split
    · rename_i c; rw [c.2, s1]
    · rfl
  · split
    · rename_i c
      rcases s2 with ⟨a1, a2⟩ | ⟨p, p1, p2, p3, p4⟩
      · omega
      · have : x = p := by omega
        subst this
        rcases p4 with ⟨b1, b2⟩ | ⟨b1, b2, b3⟩
        · exact b2
        · omega
    · rfl
  · split
    · rename_i c
      rcases s2 with ⟨a1, a2⟩ | ⟨p, p1, p2, p3, p4⟩
      · omega
      · have : x = p := by omega
        subst this
        rcases p4 with ⟨b1, b2⟩ | ⟨b1, b2, b3⟩
        · omega
        · exact b2
    · rfl
  · split
    · rename_i c; rw [h6, c]
    · rfl
/-- a whole subtree put in another one's place -/
theorem graft_LR {σ σ' : MS} {t : Int} {T S : Tr} {q : Nat} {σ1 : MS} (hT : LR σ t T) (hq : q ∈ tl T) (hRp : RplP t T q (rk S) σ σ1) (hS : RepT σ' t (prt T q (-1)) S) (hSm : ∀ x ∈ tl S, x ∈ tl (sub T q))
    (hag : ∀ x ∈ tl T, x ∉ tl (sub T q) → ∀ f, (f = 2 ∨ f = 3 ∨ f = 4) → σ'.2 f (100 * t + (x : Int)) = σ1.2 f (100 * t + (x : Int))) (h6 : σ'.2 6 t = σ1.2 6 t) (h5 : ∀ k : Nat, k < 100 → σ'.2 5 (100 * t + (k : Int)) = if k ∈ tl (gr T q S) then 1 else 0) (hsrt : Srt (gr T q S)) (hb2 : ∀ k ∈ tl (gr T q S), k < 100) (hz : tz (gr T q S) ≤ 40) : LR σ' t (gr T q S) := by
  obtain ⟨h1, h2, h3, h4, hb, h7⟩ := hT
  obtain ⟨-, r4, r2, r3, r6, -, -⟩ := hRp
  refine ⟨?_, ?_, h5, hsrt, hb2, hz⟩
  · refine rep_gr h4 hq h1 (fun y hy => by have := hb y hy; omega) hS (fun x hx nx => ?_)
    have hx1 := hb x hx
    refine ⟨?_, ?_, ?_⟩
    · rw [hag x hx nx 4 (by decide), r4, if_neg]
      rintro ⟨z1, z2⟩
      rcases rk_mem (T := S) with e | ⟨y, y1, y2⟩
      · exact z1 e
      · have : x = y := by omega
        subst this
        exact nx (hSm x y1)
    · rw [hag x hx nx 2 (by decide), r2 x hx1]
    · rw [hag x hx nx 3 (by decide), r3 x hx1]
  · rw [h6, r6, gr_rk h4 hq, h2]
def BldP (t : Int) (T : Tr) (q : Nat) (σ σ' : MS) : Prop := LR σ' t (gr T q (flat (sub T q))) ∧ σ'.1 9 = (tz (sub T q) : Int) ∧ σ'.2 7 t = σ.2 7 t ∧ σ'.2 8 t = σ.2 8 t ∧ σ'.2 10 t = σ.2 10 t + 1 ∧ σ'.2 11 t = σ.2 11 t + (tz (sub T q) : Int) ∧ (t = 0 → σ'.1 19 = σ.1 19 - (tz (sub T q) : Int) ∧ σ'.1 20 = mn (σ.1 19 - (tz (sub T q) : Int)) (σ.1 20)) ∧ Fr t σ σ'
theorem flat_fw (T : Tr) : flat T = fw (fun i => (tl T).getD i 0) 0 (tz T) := rfl
theorem srt_inj {L : List Nat} (hs : L.Pairwise (· < ·)) : ∀ i j, i < L.length → j < L.length → L.getD i 0 = L.getD j 0 → i = j := by
  intro i j hi hj e
  have g1 : L.getD i 0 = L[i] := by simp [List.getD, hi]
  have g2 : L.getD j 0 = L[j] := by simp [List.getD, hj]
  rw [g1, g2] at e
  rw [List.pairwise_iff_getElem] at hs
  rcases Nat.lt_trichotomy i j with c | c | c
  · have := hs i j hi hj c; omega
  · exact c
  · have := hs j i hj hi c; omega
theorem getD_mem {L : List Nat} {i : Nat} (h : i < L.length) : L.getD i 0 ∈ L := by
  have g1 : L.getD i 0 = L[i] := by simp [List.getD, h]
  rw [g1]
  exact List.getElem_mem h
theorem Agr.Fr {t : Int} {P : Nat → Prop} {σ σ' : MS} (h : Agr t P σ σ') (hp : ∀ k, P k → k < 100) : Fr t σ σ' := by
  refine ⟨fun f _ _ => by rw [h.1], fun f i e => h.2 f i (fun z => e (by unfold wr; omega)) (fun z => ?_)⟩
  obtain ⟨z1, k, k1, k2⟩ := z
  have := hp k k1
  exact e (by unfold wr; omega)
theorem Fr.rowS {t : Int} {σ : MS} {l : List Nat} : Fr t σ (rowS σ l) := ⟨fun _ _ _ => rfl, fun f i e => rowS_o (fun z => e (by unfold wr; omega))⟩
theorem Fr.pay {t : Int} {σ : MS} {so : Int} : Fr t σ (payS σ t so) := by
  refine ⟨fun f e1 e2 => ?_, fun f i _ => ?_⟩
  · unfold payS
    split
    · rw [setI_1n (by omega), setI_1n (by omega)]
    · rfl
  · unfold payS
    split <;> rfl
theorem payS_2 {t : Int} {σ : MS} {so : Int} : (payS σ t so).2 = σ.2 := by
  unfold payS
  split <;> rfl
theorem payS_9 {t : Int} {σ : MS} {so : Int} {f : Nat} (h : f ≠ 19 ∧ f ≠ 20) : (payS σ t so).1 f = σ.1 f := by
  unfold payS
  split
  · rw [setI_1n h.2, setI_1n h.1]
  · rfl
theorem payS_19 {σ : MS} {so : Int} : (payS σ 0 so).1 19 = σ.1 19 + so ∧ (payS σ 0 so).1 20 = mn (σ.1 19 + so) (σ.1 20) := by
  unfold payS
  rw [if_pos rfl]
  exact ⟨by rw [setI_1n (by decide), setI_1s], by rw [setI_1s]; rfl⟩
theorem m_build (σ : MS) (t : Int) (ht : t = 0 ∨ t = 1) (T : Tr) (hT : LR σ t T) (q : Nat) (hq1 : q ∈ tl T) (h10 : 0 ≤ σ.2 10 t ∧ σ.2 10 t ≤ 1000000) (h11 : 0 ≤ σ.2 11 t ∧ σ.2 11 t ≤ 1000000) (h19 : -1000000000 ≤ σ.1 19 ∧ σ.1 19 ≤ 1000000000) : MCv yX2_build cX2_build 11 none 3 [.int (iI t), .int (iI (q : Int))] σ (fun σ' => BldP t T q σ σ') := by
  intro ad hok hm
  have hs := hT.2.2.2.1
  have hb := hT.2.2.2.2.1
  have hz := hT.2.2.2.2.2
  have hq100 := hb q hq1
  have hSs := sub_srt (k := q) hs
  have hSl := sub_len (T := T) (k := q)
  obtain ⟨sl, sr, hsub⟩ := sub_root hs hq1
  have hqS : q ∈ tl (sub T q) := by rw [hsub]; exact mem_br.mpr (Or.inr (Or.inl rfl))
  have hN1 : 1 ≤ tz (sub T q) := by rw [hsub]; simp only [tz]; omega
  have hSb : ∀ x ∈ tl (sub T q), x < 100 := fun x hx => hb x (sub_mem hx)
  have hlen := tz_len (sub T q)
  generalize hNe : tz (sub T q) = N at hN1 hSl hlen
  generalize hwe : (fun i => (tl (sub T q)).getD i 0) = w
  have hwi : ∀ i, i < N → w i ∈ tl (sub T q) := fun i hi => by rw [← hwe]; exact getD_mem (by omega)
  have hw100 : ∀ i, i < N → w i < 100 := fun i hi => hSb _ (hwi i hi)
  have hwinj : ∀ i j, i < N → j < N → w i = w j → i = j := fun i j hi hj e => by rw [← hwe] at e; exact srt_inj hSs i j (by omega) (by omega) e
  have hfl : flat (sub T q) = fw w 0 N := by rw [flat_fw, hwe, hNe]
  obtain ⟨s1, -⟩ := prt_spec hs hq1 hT.1
  have hpr := prt_r hs hq1 hb
  have hgt : tl (gr T q (flat (sub T q))) = tl T := gr_tl hs hq1 (flat_tl _)
  refine Ct.of (by decide) (EL.c1 rfl (EL.c1 rfl (EL.c1 rfl (EL.nn (EL.nn (EL.nn (EL.nn (EL.nn (EL.nn (EL.nn (EL.nn EL.n0))))))))))) (fun Γ h hq hnm => ?_)
  have hT1 : LR (setI σ 9 (N : Int)) t T := hT.cg (fun f i _ _ => rfl)
  -- behind the loop
  have fin : ∀ (σ3 σ4 : MS) (b3 b4 b5 b6 b7 b8 b9 b10 : Option Value), MR σ4 → RplP t T q (w ((N - 1) / 2) : Int) (rowS (setI σ 9 (N : Int)) (tl (sub T q))) σ3 → RepT σ4 t (prt T q (-1)) (fw w 0 N) → Agr t (fun k => ∃ i, i ∈ ixs [((0, N, prt T q (-1)) : Sp)] ∧ k = w i) (psh σ3 0 0 ((N : Int) - 1) (prt T q (-1))) σ4 → V Γ 0 0 (mH ad σ4) 308 [some (.ref (ad 50)), some (.int (iI t)), some (.int (iI (q : Int))), b3, b4, b5, b6, b7, b8, b9, b10] [] := by
    intro σ3 σ4 b3 b4 b5 b6 b7 b8 b9 b10 m4 hRp hRep hAg
    have hP : ∀ k : Nat, (∃ i, i ∈ ixs [((0, N, prt T q (-1)) : Sp)] ∧ k = w i) → k ∈ tl (sub T q) := by
      rintro k ⟨i, i1, rfl⟩
      rw [ixs_one] at i1
      have i2 := (List.mem_range'_1.mp i1).2
      dsimp only at i2
      exact hwi i (by omega)
    have A3 : Agr t (fun k => k ∈ tl (sub T q)) σ3 σ4 := Agr.psh.trans (hAg.mono hP)
    have hRp0 := hRp
    obtain ⟨r1, -, -, -, -, r7, rF⟩ := hRp
    have n34 : ∀ f i, ¬ (f = 25 ∨ f = 26 ∨ f = 27) → ¬ (f = 2 ∨ f = 3 ∨ f = 4) → σ4.2 f i = σ3.2 f i := fun f i e1 e2 => A3.2 f i e1 (fun z => e2 z.1)
    have n04 : ∀ f i, ¬ (f = 24 ∨ f = 25 ∨ f = 26 ∨ f = 27) → ¬ (f = 2 ∨ f = 3 ∨ f = 4 ∨ f = 6) → σ4.2 f i = σ.2 f i := fun f i e1 e2 => by
      rw [n34 f i (by omega) (by omega), r7 f i e2, rowS_o (by omega)]
      rfl
    have f41 : σ4.1 = (setI σ 9 (N : Int)).1 := by rw [A3.1, r1]; rfl
    have g9 : σ4.1 9 = (N : Int) := by rw [f41, setI_1s]
    have g19 : σ4.1 19 = σ.1 19 := by rw [f41, setI_1n (by decide)]
    have g20 : σ4.1 20 = σ.1 20 := by rw [f41, setI_1n (by decide)]
    have F4 : Fr t σ σ4 := ((Fr.s9.trans Fr.rowS).trans rF).trans (A3.Fr hSb)
    have L4 : LR σ4 t (gr T q (flat (sub T q))) := by
      have hT2 : LR (rowS (setI σ 9 (N : Int)) (tl (sub T q))) t T := hT1.cg (fun f i _ _ => rowS_o (by omega))
      refine graft_LR (σ := rowS (setI σ 9 (N : Int)) (tl (sub T q))) (σ1 := σ3) hT2 hq1 ?_ (by rw [hfl]; exact hRep) (fun x hx => by rw [flat_tl] at hx; exact hx) (fun x hx nx f hf => A3.2 f _ (by omega) (fun z => ?_)) (n34 6 t (by decide) (by decide)) (fun k hk => ?_) (srt_tl hgt hs) (fun k hk => hb k (by rw [hgt] at hk; exact hk)) (by rw [tz_tl hgt]; exact hz)
      · rw [hfl, fw_rk w 0 N hN1, Nat.zero_add]
        exact hRp0
      · obtain ⟨-, k, k1, k2⟩ := z
        have : x = k := by omega
        subst this
        exact nx k1
      · rw [n04 5 _ (by decide) (by decide), hT.2.2.1 k hk, hgt]
    have e10 : σ4.2 10 t = σ.2 10 t := n04 10 t (by decide) (by decide)
    have e11 : σ4.2 11 t = σ.2 11 t := n04 11 t (by decide) (by decide)
    have d11 : (setA σ4 10 t (σ4.2 10 t + 1)).2 11 t = σ4.2 11 t := setA_2o (by decide)
    have d9 : (setA σ4 10 t (σ4.2 10 t + 1)).1 9 = (N : Int) := g9
    have d19 : (setA (setA σ4 10 t (σ4.2 10 t + 1)) 11 t ((setA σ4 10 t (σ4.2 10 t + 1)).2 11 t + (N : Int))).1 19 = σ.1 19 := g19
    refine v_aload_n (n' := 309) h dX2_build_308 rfl rfl ?_
    refine vm_geta (n' := 312) h 10 (by decide) q947 dX2_build_309 rfl ?_
    refine v_iload_n (n' := 313) h dX2_build_312 rfl rfl ?_
    refine v_dup2 (n' := 314) h dX2_build_313 rfl rfl rfl ?_
    refine vm_iald (n' := 315) h hok m4 10 2 (by decide) dX2_build_314 rfl (by omega) (by decide) (fun g314 => ?_)
    refine v_iconst (n' := 316) h dX2_build_315 rfl ?_
    refine v_iadd (n' := 317) h dX2_build_316 rfl ?_
    refine vm_iast (n' := 318) h hok m4 10 2 (by decide) dX2_build_317 rfl (by omega) (by decide) (by omega) (fun m317 => ?_)
    refine v_aload_n (n' := 319) h dX2_build_318 rfl rfl ?_
    refine vm_geta (n' := 322) h 11 (by decide) q948 dX2_build_319 rfl ?_
    refine v_iload_n (n' := 323) h dX2_build_322 rfl rfl ?_
    refine v_dup2 (n' := 324) h dX2_build_323 rfl rfl rfl ?_
    refine vm_iald (n' := 325) h hok m317 11 2 (by decide) dX2_build_324 rfl (by omega) (by decide) (fun g324 => ?_)
    refine v_aload_n (n' := 326) h dX2_build_325 rfl rfl ?_
    refine vm_geti (n' := 329) h m317 9 (by decide) q946 dX2_build_326 rfl (fun g326 => ?_)
    rw [d9]
    refine v_iadd (n' := 330) h dX2_build_329 rfl ?_
    refine vm_iast (n' := 331) h hok m317 11 2 (by decide) dX2_build_330 rfl (by omega) (by decide) (by omega) (fun m330 => ?_)
    refine v_aload_n (n' := 332) h dX2_build_331 rfl rfl ?_
    refine v_iload_n (n' := 333) h dX2_build_332 rfl rfl ?_
    refine v_iconst (n' := 334) h dX2_build_333 rfl ?_
    refine v_aload_n (n' := 335) h dX2_build_334 rfl rfl ?_
    refine vm_geti (n' := 338) h m330 9 (by decide) q946 dX2_build_335 rfl (fun g335 => ?_)
    rw [show (setA (setA σ4 10 t (σ4.2 10 t + 1)) 11 t ((setA σ4 10 t (σ4.2 10 t + 1)).2 11 t + (N : Int))).1 9 = (N : Int) from g9]
    refine v_isub (n' := 339) h dX2_build_338 rfl ?_
    refine vm_callV (n' := 342) h hok m330 (m_pay _ _ _ ht (by omega) (by rw [d19]; exact h19)) rfl (lw_V q1164 q1166 qs49 q87 q1167) hdX2_pay (by decide) ⟨Nat.zero_le _, Nat.zero_le _⟩ (Nat.le_of_ble_eq_true rfl) dX2_build_339 rfl rfl (fun s339 p339 m339 => ?_)
    have p339 := p339.symm
    subst p339
    refine v_vret h hq dX2_build_342 (Nat.le_refl _) (Nat.le_refl _) (ret_mv m339 ?_)
    refine ⟨L4.cg (fun f i f1 f2 => by rw [payS_2, setA_2o (by omega), setA_2o (by omega)]), ?_, ?_, ?_, ?_, ?_, ?_, ?_⟩
    · rw [payS_9 (by decide), hNe]; exact g9
    · rw [payS_2, setA_2o (by decide), setA_2o (by decide), n04 7 t (by decide) (by decide)]
    · rw [payS_2, setA_2o (by decide), setA_2o (by decide), n04 8 t (by decide) (by decide)]
    · rw [payS_2, setA_2o (by decide), setA_2s, e10]
    · rw [payS_2, setA_2s, d11, e11, hNe]
    · intro t0
      subst t0
      obtain ⟨p1, p2⟩ := payS_19 (σ := setA (setA σ4 10 0 (σ4.2 10 0 + 1)) 11 0 ((setA σ4 10 0 (σ4.2 10 0 + 1)).2 11 0 + (N : Int))) (so := 0 - (N : Int))
      rw [p1, p2, d19, hNe, show (setA (setA σ4 10 0 (σ4.2 10 0 + 1)) 11 0 ((setA σ4 10 0 (σ4.2 10 0 + 1)).2 11 0 + (N : Int))).1 20 = σ.1 20 from g20, show σ.1 19 + (0 - (N : Int)) = σ.1 19 - (N : Int) by omega]
      exact ⟨rfl, rfl⟩
    · exact ((F4.trans (Fr.sA (by unfold wr; omega))).trans (Fr.sA (by unfold wr; omega))).trans Fr.pay
  have hT2 : LR (rowS (setI σ 9 (N : Int)) (tl (sub T q))) t T := hT1.cg (fun f i _ _ => rowS_o (by omega))
  have e24 : (rowS (setI σ 9 (N : Int)) (tl (sub T q))).2 24 (((N : Int) - 1) / 2) = (w ((N - 1) / 2) : Int) := by
    have := rowS_at (σ := setI σ 9 (N : Int)) (l := tl (sub T q)) (i := (N - 1) / 2) (by omega)
    rw [show ((N : Int) - 1) / 2 = (((N - 1) / 2 : Nat) : Int) by omega, this, ← hwe]
  have e4 : (rowS (setI σ 9 (N : Int)) (tl (sub T q))).2 4 (100 * t + (q : Int)) = prt T q (-1) := by rw [rowS_o (by decide)]; exact s1
  have e9 : (rowS (setI σ 9 (N : Int)) (tl (sub T q))).1 9 = (N : Int) := by
    show (setI σ 9 (N : Int)).1 9 = (N : Int)
    exact setI_1s
  have hf100 := hw100 ((N - 1) / 2) (by omega)
  -- the loop
  have lp : ∀ (σ3 : MS) (a7 a8 a9 a10 : Option Value), MR (psh σ3 0 0 ((N : Int) - 1) (prt T q (-1))) → RplP t T q (w ((N - 1) / 2) : Int) (rowS (setI σ 9 (N : Int)) (tl (sub T q))) σ3 → V Γ 0 0 (mH ad (psh σ3 0 0 ((N : Int) - 1) (prt T q (-1)))) 88 [some (.ref (ad 50)), some (.int (iI t)), some (.int (iI (q : Int))), some (.int (iI (w ((N - 1) / 2) : Int))), some (.int (iI (prt T q (-1)))), some (.int (iI 1)), some (.int (iI 0)), a7, a8, a9, a10] [] := by
    intro σ3 a7 a8 a9 a10 m3 hRp
    refine m_bfs (w := w) (N := N) hok ht (by omega) hwinj hw100 h N [(0, N, prt T q (-1))] _ 0 1 0 a7 a8 a9 a10 (by rw [ixs_one]; simp) (by omega) rfl rfl ?_ (by rw [ixs_one]; exact List.nodup_range') (fun i hi => by rw [ixs_one] at hi; have i2 := (List.mem_range'_1.mp hi).2; dsimp only at i2; omega) (fun i hi => ?_) m3 (fun σ' b5 b6 b7 b8 b9 b10 mr' hRep hAg => fin σ3 σ' _ _ b5 b6 b7 b8 b9 b10 mr' hRp (hRep _ List.mem_cons_self) hAg)
    · intro i x hx
      have hz0 : i < 1 := (List.getElem?_eq_some_iff.mp hx).1
      rw [show i = 0 by omega] at hx ⊢
      cases hx
      rw [psh_25, psh_26, psh_27]
      refine ⟨by simp, by simp, by simp, hN1, hpr.1, hpr.2.1⟩
    · rw [psh_o _ (by decide), hRp.2.2.2.2.2.1 24 _ (by decide), rowS_at (by omega), ← hwe]
  refine v_aload_n (n' := 1) h dX2_build_0 rfl rfl ?_
  refine v_aload_n (n' := 2) h dX2_build_1 rfl rfl ?_
  refine v_iload_n (n' := 3) h dX2_build_2 rfl rfl ?_
  refine v_iload_n (n' := 4) h dX2_build_3 rfl rfl ?_
  refine vm_callI (n' := 7) h hok hm (m_size _ _ ht T hT q hq1) rfl (lw_V q1184 q1186 qs54 q87 q1187) hdX2_size (by decide) ⟨Nat.zero_le _, Nat.zero_le _⟩ (Nat.le_of_ble_eq_true rfl) dX2_build_4 rfl rfl (fun z4 s4 p4 m4 => ?_)
  obtain ⟨ez4, fz4⟩ := p4
  have ez4 := ez4.symm
  have fz4 := fz4.symm
  subst ez4 fz4
  rw [hNe]
  refine vm_puti (n' := 10) h m4 9 (by decide) q946 dX2_build_7 rfl (by omega) (fun m7 => ?_)
  refine v_aload_n (n' := 11) h dX2_build_10 rfl rfl ?_
  refine v_iload_n (n' := 12) h dX2_build_11 rfl rfl ?_
  refine v_iload_n (n' := 13) h dX2_build_12 rfl rfl ?_
  refine vm_callV (n' := 16) h hok m7 (m_layRow _ _ ht T hT1 q hq1) rfl (lw_V q1196 q1198 qs57 q87 q1199) hdX2_layRow (by decide) ⟨Nat.zero_le _, Nat.zero_le _⟩ (Nat.le_of_ble_eq_true rfl) dX2_build_13 rfl rfl (fun s13 p13 m13 => ?_)
  have p13 := p13.symm
  subst p13
  refine v_aload_n (n' := 17) h dX2_build_16 rfl rfl ?_
  refine vm_geta (n' := 20) h 24 (by decide) q961 dX2_build_17 rfl ?_
  refine v_aload_n (n' := 21) h dX2_build_20 rfl rfl ?_
  refine vm_geti (n' := 24) h m13 9 (by decide) q946 dX2_build_21 rfl (fun g21 => ?_)
  rw [e9]
  refine v_iconst (n' := 25) h dX2_build_24 rfl ?_
  refine v_isub (n' := 26) h dX2_build_25 rfl ?_
  refine v_iconst (n' := 27) h dX2_build_26 rfl ?_
  refine v_idiv (n' := 28) h dX2_build_27 rfl (by omega) (by omega) ?_
  refine vm_iald (n' := 29) h hok m13 24 40 (by decide) dX2_build_28 rfl (by omega) (by decide) (fun g28 => ?_)
  rw [e24]
  refine v_istore3 (n' := 30) h dX2_build_29 rfl rfl ?_
  refine v_aload_n (n' := 31) h dX2_build_30 rfl rfl ?_
  refine vm_geta (n' := 34) h 4 (by decide) q941 dX2_build_31 rfl ?_
  refine v_bipush (n' := 36) h dX2_build_34 rfl (by decide) ?_
  refine v_iload_n (n' := 37) h dX2_build_36 rfl rfl ?_
  refine v_imul (n' := 38) h dX2_build_37 rfl ?_
  refine v_iload_n (n' := 39) h dX2_build_38 rfl rfl ?_
  refine v_iadd (n' := 40) h dX2_build_39 rfl ?_
  refine vm_iald (n' := 41) h hok m13 4 200 (by decide) dX2_build_40 rfl (by omega) (by decide) (fun g40 => ?_)
  rw [e4]
  refine v_istore4 (n' := 43) h dX2_build_41 rfl rfl ?_
  refine v_iload_n (n' := 44) h dX2_build_43 rfl rfl ?_
  refine v_iload_n (n' := 45) h dX2_build_44 rfl rfl ?_
  refine v_icmp_eq (n' := 48) (tgt := 55) h dX2_build_45 rfl rfl (by omega) (by omega) (fun c45 => ?_) (fun c45 => ?_)
  · refine v_iconst (n' := 56) h dX2_build_55 rfl ?_
    refine v_istore5 (n' := 58) h dX2_build_56 rfl rfl ?_
    refine v_aload_n (n' := 59) h dX2_build_58 rfl rfl ?_
    refine vm_geta (n' := 62) h 25 (by decide) q962 dX2_build_59 rfl ?_
    refine v_iconst (n' := 63) h dX2_build_62 rfl ?_
    refine v_iconst (n' := 64) h dX2_build_63 rfl ?_
    refine vm_iast (n' := 65) h hok m13 25 41 (by decide) dX2_build_64 rfl (by omega) (by decide) (by omega) (fun m64 => ?_)
    refine v_aload_n (n' := 66) h dX2_build_65 rfl rfl ?_
    refine vm_geta (n' := 69) h 26 (by decide) q963 dX2_build_66 rfl ?_
    refine v_iconst (n' := 70) h dX2_build_69 rfl ?_
    refine v_aload_n (n' := 71) h dX2_build_70 rfl rfl ?_
    refine vm_geti (n' := 74) h m64 9 (by decide) q946 dX2_build_71 rfl (fun g71 => ?_)
    refine v_iconst (n' := 75) h dX2_build_74 rfl ?_
    first
    | rw [show (setA (replS (rowS (setI σ 9 (N : Int)) (tl (sub T q))) t (q : Int) (w ((N - 1) / 2) : Int)) 25 0 0).1 9 = (N : Int) from by rw [setA_1, (repl_spec hT2.1 hs hb hq1 (by omega)).1, e9]]
    | rw [show (setA (rowS (setI σ 9 (N : Int)) (tl (sub T q))) 25 0 0).1 9 = (N : Int) from e9]
    refine v_isub (n' := 76) h dX2_build_75 rfl ?_
    refine vm_iast (n' := 77) h hok m64 26 41 (by decide) dX2_build_76 rfl (by omega) (by decide) (by omega) (fun m76 => ?_)
    refine v_aload_n (n' := 78) h dX2_build_77 rfl rfl ?_
    refine vm_geta (n' := 81) h 27 (by decide) q964 dX2_build_78 rfl ?_
    refine v_iconst (n' := 82) h dX2_build_81 rfl ?_
    refine v_iload (n' := 84) h dX2_build_82 rfl rfl ?_
    refine vm_iast (n' := 85) h hok m76 27 41 (by decide) dX2_build_84 rfl (by omega) (by decide) (by omega) (fun m84 => ?_)
    refine v_iconst (n' := 86) h dX2_build_85 rfl ?_
    refine v_istore6 (n' := 88) h dX2_build_86 rfl rfl ?_
    exact lp _ _ _ _ _ m84 (by have := repl_same hT2.1 hs hq1 hT2.2.1; rw [show (w ((N - 1) / 2) : Int) = (q : Int) from c45]; exact this)
  · refine v_aload_n (n' := 49) h dX2_build_48 rfl rfl ?_
    refine v_iload_n (n' := 50) h dX2_build_49 rfl rfl ?_
    refine v_iload_n (n' := 51) h dX2_build_50 rfl rfl ?_
    refine v_iload_n (n' := 52) h dX2_build_51 rfl rfl ?_
    refine vm_callV (n' := 55) h hok m13 (m_replace _ _ _ _ ht (by omega) (by omega) (by rw [e4]; omega)) rfl (lw_V q1200 q1202 qs58 q87 q1203) hdX2_replace (by decide) ⟨Nat.zero_le _, Nat.zero_le _⟩ (Nat.le_of_ble_eq_true rfl) dX2_build_52 rfl rfl (fun s52 p52 m52 => ?_)
    have p52 := p52.symm
    subst p52
    refine v_iconst (n' := 56) h dX2_build_55 rfl ?_
    refine v_istore5 (n' := 58) h dX2_build_56 rfl rfl ?_
    refine v_aload_n (n' := 59) h dX2_build_58 rfl rfl ?_
    refine vm_geta (n' := 62) h 25 (by decide) q962 dX2_build_59 rfl ?_
    refine v_iconst (n' := 63) h dX2_build_62 rfl ?_
    refine v_iconst (n' := 64) h dX2_build_63 rfl ?_
    refine vm_iast (n' := 65) h hok m52 25 41 (by decide) dX2_build_64 rfl (by omega) (by decide) (by omega) (fun m64 => ?_)
    refine v_aload_n (n' := 66) h dX2_build_65 rfl rfl ?_
    refine vm_geta (n' := 69) h 26 (by decide) q963 dX2_build_66 rfl ?_
    refine v_iconst (n' := 70) h dX2_build_69 rfl ?_
    refine v_aload_n (n' := 71) h dX2_build_70 rfl rfl ?_
    refine vm_geti (n' := 74) h m64 9 (by decide) q946 dX2_build_71 rfl (fun g71 => ?_)
    refine v_iconst (n' := 75) h dX2_build_74 rfl ?_
    first
    | rw [show (setA (replS (rowS (setI σ 9 (N : Int)) (tl (sub T q))) t (q : Int) (w ((N - 1) / 2) : Int)) 25 0 0).1 9 = (N : Int) from by rw [setA_1, (repl_spec hT2.1 hs hb hq1 (by omega)).1, e9]]
    | rw [show (setA (rowS (setI σ 9 (N : Int)) (tl (sub T q))) 25 0 0).1 9 = (N : Int) from e9]
    refine v_isub (n' := 76) h dX2_build_75 rfl ?_
    refine vm_iast (n' := 77) h hok m64 26 41 (by decide) dX2_build_76 rfl (by omega) (by decide) (by omega) (fun m76 => ?_)
    refine v_aload_n (n' := 78) h dX2_build_77 rfl rfl ?_
    refine vm_geta (n' := 81) h 27 (by decide) q964 dX2_build_78 rfl ?_
    refine v_iconst (n' := 82) h dX2_build_81 rfl ?_
    refine v_iload (n' := 84) h dX2_build_82 rfl rfl ?_
    refine vm_iast (n' := 85) h hok m76 27 41 (by decide) dX2_build_84 rfl (by omega) (by decide) (by omega) (fun m84 => ?_)
    refine v_iconst (n' := 86) h dX2_build_85 rfl ?_
    refine v_istore6 (n' := 88) h dX2_build_86 rfl rfl ?_
    exact lp _ _ _ _ _ m84 (repl_spec hT2.1 hs hb hq1 (by omega))
