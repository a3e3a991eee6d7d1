/-! THE CLASS: fill -/
set_option maxRecDepth 100000
/-- putNew with a smaller region for the tree -/
theorem c_putNew2 (de : Nat) (hp : AH) (W Ws : Nat → Prop) (ax : Nat) (A : Nat → Nat) (t : Nat) (kt : Option Nat) (σ : MS) (ad : Nat → Nat) (s : SS) (hH : CH de hp W ax A t kt σ ad s) (hT : TT hp Ws t ad (sC s).2.1 (sC s).2.2.1 (sA s) (sB s) (sF s) (sC s).1) (hf : Fre Ws hp) (hw : ∀ q, Ws q → W q) (h5 : 0 ≤ σ.1 5 ∧ σ.1 5 ≤ 60) (hs : Srt (sC s).1.1) (hz : tz (sC s).1.1 < 40) (hB : TeB (sC s).1 256000) (hab : isRat (sA s) (sB s)) (hfee : 0 ≤ sF s ∧ sF s ≤ 9)
    (key kd x : Nat) (v : Int) (hk : key ∉ tl (sC s).1.1) (hk1 : key < 100) (hkd : kd < 5) (hx : hp x = some (eO kd key v none none)) (hWx : Ws x) : CtE de yX0_putNew cX0_putNew 2 (some .int) (rmK 63 12 264) [.ref ax, .ref x] hp (rI (fun z hp' => Frm (fun q => Ws q ∨ q = ax ∨ q = A 4) hp hp' ∧ Fre Ws hp' ∧ ∃ ad', CH de hp' W ax A t kt (wrC σ key) ad' (setC s (shPut (sA s) (sB s) (sF s) (sC s) kd key v)) ∧ TT hp' Ws t ad' (sC (setC s (shPut (sA s) (sB s) (sF s) (sC s) kd key v))).2.1 (sC (setC s (shPut (sA s) (sB s) (sF s) (sC s) kd key v))).2.2.1 (sA s) (sB s) (sF s) (sC (setC s (shPut (sA s) (sB s) (sF s) (sC s) kd key v))).1)) := by
  have hax := hH.1.1
  have nax : ∀ q, Ws q → q ≠ ax := fun q hq z => hH.1.2.1 (hw _ (by rw [← z]; exact hq))
  have n4 : ∀ q, Ws q → q ≠ A 4 := fun q hq z => (hH.1.2.2.1 4 (by decide)).2 (hw _ (by rw [← z]; exact hq))
  refine CtE.of (by decide) (EL.c1 rfl (EL.c1 rfl EL.n0)) (fun Γ h hq hnm hde => ?_)
  refine v_aload_n (n' := 1) h dX0_putNew_0 rfl rfl ?_
  refine v_aload_n (n' := 2) h dX0_putNew_1 rfl rfl ?_
  refine v_ekey (n' := 5) h q425 dX0_putNew_2 rfl (by first | assumption | exact upH_s | exact (upH_n (by assumption)).trans (by assumption) | exact (upH_n (by assumption)).trans upH_s | exact (upH_n (by assumption)).trans ((upH_n (by assumption)).trans (by assumption))) (by omega) ?_
  refine vc_callV (n' := 8) (ci := 0) h ((c_write de hp W ax A t kt σ ad s hH h5 (key : Int)).d hde) rfl (by first | assumption | exact upH_s | exact (upH_n (by assumption)).trans (by assumption) | exact (upH_n (by assumption)).trans upH_s | exact (upH_n (by assumption)).trans ((upH_n (by assumption)).trans (by assumption))) (lw_V q556 q558 qs12 q82 q559) hdX0_write ⟨by omega, by decide⟩ ⟨by omega, by omega⟩ (Nat.le_of_ble_eq_true rfl) dX0_putNew_5 rfl (eV fun hp5 p5 => ?_) rfl
  obtain ⟨H5, F5⟩ := p5
  have no : ∀ q, Ws q → ¬ (q = ax ∨ q = A 4) := fun q hq z => z.elim (nax q hq) (n4 q hq)
  have hx5 : hp5 x = some (eO kd key v none none) := F5.at hx (no x hWx)
  have hax5 := H5.1.1
  have ht5 := H5.2.2.1.1
  have T5 : TT hp5 Ws t ad (sC s).2.1 (sC s).2.2.1 (sA s) (sB s) (sF s) (sC s).1 := hT.keep (fun q c hq hqw => F5.at hq (no q hqw))
  have f5 : Fre Ws hp5 := by
    intro q hq
    by_cases c1 : q = ax
    · rw [c1, hax5] at hq; cases hq
    · by_cases c2 : q = A 4
      · rw [c2, (H5.1.2.2.1 4 (by decide)).1] at hq; cases hq
      · exact hf q (by rw [← F5 q (fun z => z.elim c1 c2)]; exact hq)
  refine v_aload_n (n' := 9) h dX0_putNew_8 rfl rfl ?_
  refine v_get (n' := 12) (ci := 0) h rfl in_X0 0 (by decide) q188 rfl dX0_putNew_9 rfl (by first | assumption | exact upH_s | exact (upH_n (by assumption)).trans (by assumption) | exact (upH_n (by assumption)).trans upH_s | exact (upH_n (by assumption)).trans ((upH_n (by assumption)).trans (by assumption))) (by rfl) ?_
  refine v_aload_n (n' := 13) h dX0_putNew_12 rfl rfl ?_
  refine vc_callV (n' := 16) (ci := 1) h ((c_put de hp5 Ws t ad _ _ _ _ _ _ T5 f5 hs hz (hB.le (by omega)) hab hfee key kd x v hk hk1 hkd hx5 hWx).d hde) rfl (by first | assumption | exact upH_s | exact (upH_n (by assumption)).trans (by assumption) | exact (upH_n (by assumption)).trans upH_s | exact (upH_n (by assumption)).trans ((upH_n (by assumption)).trans (by assumption))) (lw_V q560 q561 q562 q83 q563) hdX1_put ⟨by omega, by decide⟩ ⟨by omega, by omega⟩ (Nat.le_of_ble_eq_true rfl) dX0_putNew_13 rfl (eI fun z13 hp13 p13 => ?_) rfl
  obtain ⟨ez13, T13, F13⟩ := p13
  subst ez13
  refine v_iret h hq dX0_putNew_16 (by omega) (by omega) (ret_i ?_)
  exact ⟨(F5.wk (fun q hq => Or.inr hq)).tr (F13.wk (fun q hq => Or.inl hq)), F13.fre f5, _, H5.tr (s' := setC s (shPut (sA s) (sB s) (sF s) (sC s) kd key v)) (F13.wk hw) (T13.wk hw) ⟨rfl, rfl, rfl, rfl, rfl, rfl⟩, T13⟩
/-- the state as the first j entries of the page make it -/
noncomputable abbrev fS (s : SS) (j : Nat) : SS := (sPg s, 0, sSh s + 1, sPg s 0 - 48, sPg s 1 - 48, sPg s 3 - 48, shN (sPg s) (sPg s 0 - 48) (sPg s 1 - 48) (sPg s 3 - 48) j, sKn s, sK s)
theorem Sm.sh {de : Nat} {hp : AH} {W : Nat → Prop} {a : Nat} (h : Sm de hp W a) : Sm de hp (Fsh hp) a := by
  obtain ⟨xs, ⟨arr, k1, k2, k3⟩, k4, k5⟩ := h
  exact ⟨xs, ⟨arr, k1, Fsh.no k1, k3.imp id (fun q => ⟨q.1, Fsh.no q.2.2, q.2.2⟩)⟩, k4, fun i y hy => ⟨(k5 i y hy).1, Fsh.no (k5 i y hy).1⟩⟩
theorem Kp.fs {hp hp' : AH} {W W' : Nat → Prop} {kt : Option Nat} {σ σ' : MS} {s : SS} (h : Kp hp W kt σ s) (hk : sKn s ≤ sSh s) (e : σ'.1 13 = σ.1 13) (j : Nat) : Kp hp' W' kt σ' (fS s j) := by
  rcases h with h | ⟨kk, h1, h2, -⟩
  · exact Or.inl h
  · refine Or.inr ⟨kk, h1, e.trans h2, fun z => ?_⟩
    have z : sKn s = sSh s + 1 := z
    omega
theorem Sm.own {de : Nat} {hp : AH} {W : Nat → Prop} {a ax : Nat} {A : Nat → Nat} {t : Nat} {kt : Option Nat} {σ : MS} {e' : va_E} (h : Sm de hp W a) (hx : hp ax = some (xO A t kt σ)) : Sm de (upH hp ax e') W a := by
  obtain ⟨xs, ⟨arr, k1, k2, k3⟩, k4, k5⟩ := h
  refine ⟨xs, ⟨arr, (upH_n (cell_ne k1 hx (fun z => ?_))).trans k1, k2, k3.imp id (fun q => ⟨q.1, q.2.1, (upH_n (cell_ne q.2.2 hx (fun z => by cases z))).trans q.2.2⟩)⟩, k4, fun i y hy => ⟨(upH_n (cell_ne (k5 i y hy).1 hx (fun z => ?_))).trans (k5 i y hy).1, (k5 i y hy).2⟩⟩
  · have := congrArg Prod.fst (Sum.inr.inj z); simp at this
  · have := congrArg Prod.fst (Sum.inr.inj z); simp at this
/-- the cells that the reading still needs -/
def Zc (r el arr : Nat) (xs : List Nat) (j q : Nat) : Prop := q = r ∨ q = el ∨ (xs ≠ [] ∧ q = arr) ∨ ∃ i, j ≤ i ∧ xs[i]? = some q
def Wc (hp0 : AH) (r el arr : Nat) (xs : List Nat) (j : Nat) : Nat → Prop := fun q => hp0 q = none ∧ ¬ Zc r el arr xs j q
theorem Wc.up {hp0 : AH} {r el arr : Nat} {xs : List Nat} {j q : Nat} (h : Wc hp0 r el arr xs j q) : Wc hp0 r el arr xs (j + 1) q := ⟨h.1, fun z => h.2 (by
  rcases z with z | z | z | ⟨i, hi, z⟩
  · exact Or.inl z
  · exact Or.inr (Or.inl z)
  · exact Or.inr (Or.inr (Or.inl z))
  · exact Or.inr (Or.inr (Or.inr ⟨i, by omega, z⟩)))⟩
theorem c_fill (de : Nat) (hp0 hp : AH) (W : Nat → Prop) (ax : Nat) (A : Nat → Nat) (t : Nat) (kt : Option Nat) (σ : MS) (ad : Nat → Nat) (s : SS) (n : Int) (hH : CH de hp0 W ax A t kt σ ad s) (hX : XS σ s) (hi : SInv s n) (hok : PageOk (sPg s) (sPn s)) (r el : Nat) (xs : List Nat) (hxl : xs.length = ((sPn s - 4) / 6).toNat) (R : RS de hp0 hp r el ax (sPn s) (sPg s 0 - 48) (sPg s 1 - 48) (sPg s 3 - 48) xs (sPg s)) :
    CtE de yX0_fill cX0_fill 3 none (rmK 64 100 2200) [.ref ax, .ref r] hp (rV (fun hp' => ∃ t' ad' σ', CH de hp' (Fsh hp0) ax A t' kt σ' ad' (fS s xs.length) ∧ CLog σ' 4 5 (sC (fS s xs.length)).2.2.2.1 ∧ (∀ f, f ≠ 5 → σ'.1 f = σ.1 f) ∧ (∀ f, f ≠ 4 → σ'.2 f = σ.2 f))) := by
  have hP54 := hi.2.1
  obtain ⟨P1, P2, P3⟩ := hok
  have P4 : ∀ k, 0 ≤ k → k < sPn s → Good (sPg s) k := P2.2.2.1
  have G1 : isRat (sPg s 0 - 48) (sPg s 1 - 48) := P4 1 (by omega) (by omega)
  have G3 : 49 ≤ sPg s 3 ∧ sPg s 3 ≤ 57 := P4 3 (by omega) (by omega)
  have hE : ∀ i, i < xs.length → EOk (sPg s) i := fun i hi' => EOk_of (fun k k0 k1 => P4 k k0 (by omega))
  have hx8 : xs.length ≤ 8 := by omega
  have hkn : -1 ≤ sKn s ∧ sKn s ≤ sSh s := hi.2.2.2.2.2.2.1
  have X0 : XR hp (Fsh hp0) ax A t kt σ := (hH.1.wk (W' := Fsh hp0) (fun q e he hw => absurd hw (Fsh.no he))).frm R.1
  have S0 : Sm de hp (Fsh hp0) (A 10) := hH.2.2.2.1.sh.frm R.1
  have K0 := hH.2.2.2.2
  have F0 : Fre (Fsh hp0) hp := R.1.fre Fre.sh
  have hr := R.2.1
  have hax : hp ax = some (xO A t kt σ) := X0.1
  obtain ⟨arr, hl1, hl2, hl3⟩ := R.2.2.2.1
  have free : ∀ j q, Zc r el arr xs j q → hp0 q = none := by
    intro j q hq
    rcases hq with z | z | z | ⟨i, -, z⟩
    · rw [z]; exact R.2.2.1
    · rw [z]; exact hl2.1
    · rw [z.2]; exact (hl3.resolve_left (fun w => z.1 w.1)).2.1.1
    · exact (R.2.2.2.2 i q z).1
  have occ : ∀ j q, Zc r el arr xs j q → hp q ≠ none := by
    intro j q hq hn
    rcases hq with z | z | z | ⟨i, -, z⟩
    · rw [z, hr] at hn; cases hn
    · rw [z, hl1] at hn; cases hn
    · rw [z.2, (hl3.resolve_left (fun w => z.1 w.1)).2.2] at hn; cases hn
    · rw [(R.2.2.2.2 i q z).2] at hn; cases hn
  have hLs : Ls hp (fun q => q = el ∨ (xs ≠ [] ∧ q = arr)) de el xs := ⟨arr, hl1, Or.inl rfl, hl3.imp id (fun q => ⟨q.1, Or.inr ⟨q.1, rfl⟩, q.2.2⟩)⟩
  refine CtE.of (by decide) (EL.c1 rfl (EL.c1 rfl (EL.nn EL.n0))) (fun Γ h hq hnm hde => ?_)
  have loop : ∀ (t' : Nat) (m j : Nat), j + m = xs.length → ∀ (hp1 : AH) (σ1 : MS) (ad1 : Nat → Nat), CH de hp1 (Fsh hp0) ax A t' kt σ1 ad1 (fS s j) → TT hp1 (Wc hp0 r el arr xs j) t' ad1 (sC (fS s j)).2.1 (sC (fS s j)).2.2.1 (sA (fS s j)) (sB (fS s j)) (sF (fS s j)) (sC (fS s j)).1 → Fre (Wc hp0 r el arr xs j) hp1 → CLog σ1 4 5 (sC (fS s j)).2.2.2.1 → (∀ f, f ≠ 5 → σ1.1 f = σ.1 f) → (∀ f, f ≠ 4 → σ1.2 f = σ.2 f) → (∀ q, Zc r el arr xs j q → hp1 q = hp q) → V Γ (1 + 12 * j) (20 + 264 * j) hp1 33 [some (.ref ax), some (.ref r), some (.int (iI j))] [] := by
    intro t' m
    induction m with
    | zero =>
      intro j hj hp1 σ1 ad1 H1 T1 F1 L1 e1 e2 Z1
      obtain rfl : j = xs.length := by omega
      have hr1 : hp1 r = _ := (Z1 r (Or.inl rfl)).trans hr
      have hl11 : hp1 el = _ := (Z1 el (Or.inr (Or.inl rfl))).trans hl1
      refine v_iload_n (n' := 34) h dX0_fill_33 rfl rfl ?_
      refine v_aload_n (n' := 35) h dX0_fill_34 rfl rfl ?_
      refine v_getN (n' := 38) (ci := 3) h rfl in_X3 4 (by decide) q283 rfl dX0_fill_35 rfl (by first | assumption | exact upH_s | exact (upH_n (by assumption)).trans (by assumption) | exact (upH_n (by assumption)).trans upH_s | exact (upH_n (by assumption)).trans ((upH_n (by assumption)).trans (by assumption))) (by rfl) ?_
      refine vc_callV (n' := 41) (ci := 10) h ((c_size de hp1 el _ _ arr hl11).d hde) rfl (by first | assumption | exact upH_s | exact (upH_n (by assumption)).trans (by assumption) | exact (upH_n (by assumption)).trans upH_s | exact (upH_n (by assumption)).trans ((upH_n (by assumption)).trans (by assumption))) (lw_V q550 q394 q395 q86 q396) hdJ2_size ⟨by omega, by decide⟩ ⟨by omega, by omega⟩ (Nat.le_of_ble_eq_true rfl) dX0_fill_38 rfl (eI fun z38 hp38 p38 => ?_) rfl
      obtain ⟨ez38, fz38⟩ := p38
      have ez38 := ez38.symm
      have fz38 := fz38.symm
      subst ez38 fz38
      refine v_icmp_ge (n' := 44) (tgt := 66) h dX0_fill_41 rfl rfl (by omega) (by omega) (fun c41 => ?_) (fun c41 => ?_)
      · refine v_vret h hq dX0_fill_66 (by omega) (by omega) (ret_v ?_)
        exact ⟨t', ad1, σ1, H1, L1, e1, e2⟩
      · omega
    | succ m ih =>
      intro j hj hp1 σ1 ad1 H1 T1 F1 L1 e1 e2 Z1
      have hjl : j < xs.length := by omega
      have hr1 : hp1 r = _ := (Z1 r (Or.inl rfl)).trans hr
      have hl11 : hp1 el = _ := (Z1 el (Or.inr (Or.inl rfl))).trans hl1
      have hax1 := H1.1.1
      have hy : xs[j]? = some xs[j] := List.getElem?_eq_getElem hjl
      have hLs1 : Ls hp1 (fun q => q = el ∨ (xs ≠ [] ∧ q = arr)) de el xs := hLs.frmO (fun q c hq hw => by
        rw [Z1 q (by
          rcases hw with w | w
          · exact Or.inr (Or.inl w)
          · exact Or.inr (Or.inr (Or.inl w)))]
        exact hq)
      obtain ⟨q1, q2, q3, q4⟩ := hE j hjl
      have eK : (((KeyAt (sPg s) (6 + 6 * (j : Int))).toNat : Nat) : Int) = KeyAt (sPg s) (6 + 6 * (j : Int)) := by omega
      have ek : (((kindBy (sPg s (5 + 6 * (j : Int)))).toNat : Nat) : Int) = kindBy (sPg s (5 + 6 * (j : Int))) := by omega
      have hxc0 := (R.2.2.2.2 j _ hy).2
      have hxc : hp1 xs[j] = some (eO (kindBy (sPg s (5 + 6 * (j : Int)))).toNat (((KeyAt (sPg s) (6 + 6 * (j : Int))).toNat : Nat) : Int) (sPg s (9 + 6 * (j : Int)) - 48) none none) := by
        rw [Z1 _ (Or.inr (Or.inr (Or.inr ⟨j, Nat.le_refl _, hy⟩))), eK]
        exact hxc0
      have hWx : Wc hp0 r el arr xs (j + 1) xs[j] := by
        refine ⟨(R.2.2.2.2 j _ hy).1, fun z => ?_⟩
        rcases z with z | z | z | ⟨i, hi', z⟩
        · exact (cell_ne hxc0 hr (eP_ne j _ 3 (Or.inl rfl) (kindBy_r _).2)) z
        · exact (cell_ne hxc0 hl1 (eP_ne j _ 10 (Or.inr rfl) (kindBy_r _).2)) z
        · exact (cell_ne hxc0 (hl3.resolve_left (fun w => z.1 w.1)).2.2 (fun w => by cases w)) z.2
        · have hil : i < xs.length := (List.getElem?_eq_some_iff.mp z).1
          have c1 := (R.2.2.2.2 i _ z).2
          have := eO_key (by omega) ((hE i hil).2.1) (Option.some.inj (hxc0.symm.trans c1))
          exact (hE i hil).2.2.2 j (by omega) this
      have ok := shN_ok (g := sPg s) (a := sPg s 0 - 48) (b := sPg s 1 - 48) (fee := sPg s 3 - 48) (by omega) j (by omega) (fun i hi' => hE i (by omega))
      have hk : (KeyAt (sPg s) (6 + 6 * (j : Int))).toNat ∉ tl (sC (fS s j)).1.1 := by
        intro z
        obtain ⟨i, hi', ei⟩ := ok.2.2 _ z
        have := (hE i (by omega)).2.1
        exact q4 i hi' (by omega)
      have h5 : 0 ≤ σ1.1 5 ∧ σ1.1 5 ≤ 60 := by have := L1.1; have := L1.2.1; omega
      have hz40 : tz (sC (fS s j)).1.1 < 40 := by have := ok.2.1; show tz (shN _ _ _ _ j).1.1 < 40; omega
      have ej : ((j + 1 : Nat) : Int) = (j : Int) + 1 := by omega
      have est : setC (fS s j) (shPut (sA (fS s j)) (sB (fS s j)) (sF (fS s j)) (sC (fS s j)) (((kindBy (sPg s (5 + 6 * (j : Int)))).toNat : Nat) : Int) (KeyAt (sPg s) (6 + 6 * (j : Int))).toNat (sPg s (9 + 6 * (j : Int)) - 48)) = fS s (j + 1) := by rw [ek]; rfl
      have hs : Srt (sC (fS s j)).1.1 := ok.1.1
      have hB : TeB (sC (fS s j)).1 256000 := ok.1.2.2.2.1.le (by omega)
      have hab : isRat (sA (fS s j)) (sB (fS s j)) := G1
      have hfe : 0 ≤ sF (fS s j) ∧ sF (fS s j) ≤ 9 := by show 0 ≤ sPg s 3 - 48 ∧ sPg s 3 - 48 ≤ 9; omega
      have hkd : (kindBy (sPg s (5 + 6 * (j : Int)))).toNat < 5 := by omega
      refine v_iload_n (n' := 34) h dX0_fill_33 rfl rfl ?_
      refine v_aload_n (n' := 35) h dX0_fill_34 rfl rfl ?_
      refine v_getN (n' := 38) (ci := 3) h rfl in_X3 4 (by decide) q283 rfl dX0_fill_35 rfl (by first | assumption | exact upH_s | exact (upH_n (by assumption)).trans (by assumption) | exact (upH_n (by assumption)).trans upH_s | exact (upH_n (by assumption)).trans ((upH_n (by assumption)).trans (by assumption))) (by rfl) ?_
      refine vc_callV (n' := 41) (ci := 10) h ((c_size de hp1 el _ _ arr hl11).d hde) rfl (by first | assumption | exact upH_s | exact (upH_n (by assumption)).trans (by assumption) | exact (upH_n (by assumption)).trans upH_s | exact (upH_n (by assumption)).trans ((upH_n (by assumption)).trans (by assumption))) (lw_V q550 q394 q395 q86 q396) hdJ2_size ⟨by omega, by decide⟩ ⟨by omega, by omega⟩ (Nat.le_of_ble_eq_true rfl) dX0_fill_38 rfl (eI fun z38 hp38 p38 => ?_) rfl
      obtain ⟨ez38, fz38⟩ := p38
      have ez38 := ez38.symm
      have fz38 := fz38.symm
      subst ez38 fz38
      refine v_icmp_ge (n' := 44) (tgt := 66) h dX0_fill_41 rfl rfl (by omega) (by omega) (fun c41 => ?_) (fun c41 => ?_)
      · omega
      · refine v_aload_n (n' := 45) h dX0_fill_44 rfl rfl ?_
        refine v_aload_n (n' := 46) h dX0_fill_45 rfl rfl ?_
        refine v_getN (n' := 49) (ci := 3) h rfl in_X3 4 (by decide) q283 rfl dX0_fill_46 rfl (by first | assumption | exact upH_s | exact (upH_n (by assumption)).trans (by assumption) | exact (upH_n (by assumption)).trans upH_s | exact (upH_n (by assumption)).trans ((upH_n (by assumption)).trans (by assumption))) (by rfl) ?_
        refine v_iload_n (n' := 50) h dX0_fill_49 rfl rfl ?_
        refine vc_callV (n' := 53) (ci := 10) h ((c_get de hp1 _ el xs j xs[j] hLs1 hy (by omega)).d hde) rfl (by first | assumption | exact upH_s | exact (upH_n (by assumption)).trans (by assumption) | exact (upH_n (by assumption)).trans upH_s | exact (upH_n (by assumption)).trans ((upH_n (by assumption)).trans (by assumption))) (lw_V q551 q398 q399 q86 q400) hdJ2_get ⟨by omega, by decide⟩ ⟨by omega, by omega⟩ (Nat.le_of_ble_eq_true rfl) dX0_fill_50 rfl (eR fun z50 hp50 p50 => ?_) rfl
        obtain ⟨ez50, fz50⟩ := p50
        have ez50 := ez50.symm
        have fz50 := fz50.symm
        subst ez50 fz50
        refine v_castE (n' := 56) h q474 dX0_fill_53 rfl (by first | assumption | exact upH_s | exact (upH_n (by assumption)).trans (by assumption) | exact (upH_n (by assumption)).trans upH_s | exact (upH_n (by assumption)).trans ((upH_n (by assumption)).trans (by assumption))) (by omega) ?_
        refine vc_callV (n' := 59) (ci := 0) h ((c_putNew2 de hp1 (Fsh hp0) (Wc hp0 r el arr xs (j + 1)) ax A t' kt σ1 ad1 (fS s j) H1 (T1.wk (fun q hq => hq.up)) (fun q hq => (F1 q hq).up) (fun q hq => hq.1) h5 hs hz40 hB hab hfe (KeyAt (sPg s) (6 + 6 * (j : Int))).toNat (kindBy (sPg s (5 + 6 * (j : Int)))).toNat xs[j] (sPg s (9 + 6 * (j : Int)) - 48) hk (by omega) hkd hxc hWx).d hde) rfl (by first | assumption | exact upH_s | exact (upH_n (by assumption)).trans (by assumption) | exact (upH_n (by assumption)).trans upH_s | exact (upH_n (by assumption)).trans ((upH_n (by assumption)).trans (by assumption))) (lw_V q552 q554 qs11 q82 q555) hdX0_putNew ⟨by omega, by decide⟩ ⟨by omega, by omega⟩ (Nat.le_of_ble_eq_true rfl) dX0_fill_56 rfl (eI fun z56 hp56 p56 => ?_) rfl
        obtain ⟨F56, f56, ad2, H56, T56⟩ := p56
        rw [est] at H56 T56
        refine v_pop (n' := 60) h dX0_fill_59 rfl rfl ?_
        refine v_iinc2 (n' := 63) h dX0_fill_60 rfl rfl ?_
        refine v_goto (tgt := 33) h dX0_fill_63 rfl ?_
        rw [← ej]
        refine V.widen (k2 := 1 + 12 * (j + 1)) (n2 := 20 + 264 * (j + 1)) (by omega) (by omega) (ih (j + 1) (by omega) _ _ ad2 H56 T56 f56 ?_ (fun f hf => (wrC_1 hf).trans (e1 f hf)) (fun f hf => (wrC_2 hf).trans (e2 f hf)) (fun q hq => ?_))
        · have := L1.wr (((KeyAt (sPg s) (6 + 6 * (j : Int))).toNat : Nat) : Int)
          rw [show enc (((KeyAt (sPg s) (6 + 6 * (j : Int))).toNat : Nat) : Int) = (((KeyAt (sPg s) (6 + 6 * (j : Int))).toNat : Nat) : Int) by unfold enc; rw [if_neg (by omega)]] at this
          exact this
        · have hq0 := free _ _ hq
          rw [F56 q (fun z => by
            rcases z with z | z | z
            · exact z.2 hq
            · rw [z, hH.1.1] at hq0; cases hq0
            · rw [z, (hH.1.2.2.1 4 (by decide)).1] at hq0; cases hq0)]
          exact Z1 q (by
            rcases hq with z | z | z | ⟨i, hi', z⟩
            · exact Or.inl z
            · exact Or.inr (Or.inl z)
            · exact Or.inr (Or.inr (Or.inl z))
            · exact Or.inr (Or.inr (Or.inr ⟨i, by omega, z⟩)))
  refine v_aload_n (n' := 1) h dX0_fill_0 rfl rfl ?_
  refine v_new (n' := 4) (ci := 1) h rfl in_X1 tyX1 tyX1_ok q112 q113 q83 (fs := dvX1) dvX1_ok dX0_fill_1 rfl (rmC (by omega)) (rmS (by omega)) (fun a1 n1 => ?_)
  have ne : ∀ {q : Nat} {c : va_E}, hp q = some c → q ≠ a1 := fun hq w => by rw [w, n1] at hq; cases hq
  have hr1 : upH hp a1 (.inr (1, dvX1)) r = _ := (upH_n (ne hr)).trans hr
  have hax1 : upH hp a1 (.inr (1, dvX1)) ax = _ := (upH_n (ne hax)).trans hax
  refine v_dup (n' := 5) h dX0_fill_4 rfl rfl ?_
  refine vc_callIN (n' := 8) h ((c_tinit de _ a1).d hde) q116 q83 q114 q115 rfl hdX1_init ⟨by omega, by decide⟩ ⟨by omega, by omega⟩ (Nat.le_of_ble_eq_true rfl) dX0_fill_5 rfl (eV fun hp5 p5 => ?_) rfl
  have p5 := p5.symm
  subst p5
  refine v_aload_n (n' := 9) h dX0_fill_8 rfl rfl ?_
  refine v_getN (n' := 12) (ci := 3) h rfl in_X3 1 (by decide) q277 rfl dX0_fill_9 rfl (by first | assumption | exact upH_s | exact (upH_n (by assumption)).trans (by assumption) | exact (upH_n (by assumption)).trans upH_s | exact (upH_n (by assumption)).trans ((upH_n (by assumption)).trans (by assumption))) (by rfl) ?_
  refine v_aload_n (n' := 13) h dX0_fill_12 rfl rfl ?_
  refine v_getN (n' := 16) (ci := 3) h rfl in_X3 2 (by decide) q279 rfl dX0_fill_13 rfl (by first | assumption | exact upH_s | exact (upH_n (by assumption)).trans (by assumption) | exact (upH_n (by assumption)).trans upH_s | exact (upH_n (by assumption)).trans ((upH_n (by assumption)).trans (by assumption))) (by rfl) ?_
  refine v_aload_n (n' := 17) h dX0_fill_16 rfl rfl ?_
  refine v_getN (n' := 20) (ci := 3) h rfl in_X3 3 (by decide) q281 rfl dX0_fill_17 rfl (by first | assumption | exact upH_s | exact (upH_n (by assumption)).trans (by assumption) | exact (upH_n (by assumption)).trans upH_s | exact (upH_n (by assumption)).trans ((upH_n (by assumption)).trans (by assumption))) (by rfl) ?_
  refine vc_callV (n' := 23) (ci := 1) h ((c_empty de _ a1 upH_s (sPg s 0 - 48) (sPg s 1 - 48) (sPg s 3 - 48)).d hde) rfl (by first | assumption | exact upH_s | exact (upH_n (by assumption)).trans (by assumption) | exact (upH_n (by assumption)).trans upH_s | exact (upH_n (by assumption)).trans ((upH_n (by assumption)).trans (by assumption))) (lw_V q546 q547 q548 q83 q549) hdX1_empty ⟨by omega, by decide⟩ ⟨by omega, by omega⟩ (Nat.le_of_ble_eq_true rfl) dX0_fill_20 rfl (eR fun z20 hp20 p20 => ?_) rfl
  obtain ⟨ez20, fz20⟩ := p20
  have ez20 := ez20.symm
  have fz20 := fz20.symm
  subst ez20 fz20
  rw [upH_up]
  have hax2 : upH hp a1 (tO none (sPg s 0 - 48) (sPg s 1 - 48) (sPg s 3 - 48) 0 0 0 0 0 0) ax = _ := (upH_n (ne hax)).trans hax
  refine v_put (n' := 26) (ci := 0) h rfl in_X0 tyX0 tyX0_ok nmX0 0 (by decide) q188 rfl rfl dX0_fill_23 rfl (by first | assumption | exact upH_s | exact (upH_n (by assumption)).trans (by assumption) | exact (upH_n (by assumption)).trans upH_s | exact (upH_n (by assumption)).trans ((upH_n (by assumption)).trans (by assumption))) (by show 0 < 20; decide) rfl rfl ?_
  refine v_aload_n (n' := 27) h dX0_fill_26 rfl rfl ?_
  refine v_iconst (n' := 28) h dX0_fill_27 rfl ?_
  refine v_put (n' := 31) (ci := 0) h rfl in_X0 tyX0 tyX0_ok nmX0 5 (by decide) q195 rfl rfl dX0_fill_28 rfl (by first | assumption | exact upH_s | exact (upH_n (by assumption)).trans (by assumption) | exact (upH_n (by assumption)).trans upH_s | exact (upH_n (by assumption)).trans ((upH_n (by assumption)).trans (by assumption))) (by show 5 < 20; decide) rfl rfl ?_
  refine v_iconst (n' := 32) h dX0_fill_31 rfl ?_
  refine v_istore2 (n' := 33) h dX0_fill_32 rfl rfl ?_
  rw [upH_up]
  have X1 : XR (upH hp a1 (tO none (sPg s 0 - 48) (sPg s 1 - 48) (sPg s 3 - 48) 0 0 0 0 0 0)) (Fsh hp0) ax A t kt σ := X0.frm (Frm.up (F0 _ n1))
  have ha1 : hp0 a1 = none := F0 _ n1
  have none0 : ∀ q, upH (upH hp a1 (tO none (sPg s 0 - 48) (sPg s 1 - 48) (sPg s 3 - 48) 0 0 0 0 0 0)) ax (xO A a1 kt (setI σ 5 0)) q = none → hp q = none := by
    intro q hq
    by_cases c1 : q = ax
    · rw [c1, upH_s] at hq; cases hq
    · rw [upH_n c1] at hq
      by_cases c2 : q = a1
      · rw [c2, upH_s] at hq; cases hq
      · rw [upH_n c2] at hq; exact hq
  have X2 := X1.set (t' := a1) (kt' := kt) (σ' := setI σ 5 0) rfl
  have TT0 : ∀ (W' : Nat → Prop), W' a1 → TT (upH (upH hp a1 (tO none (sPg s 0 - 48) (sPg s 1 - 48) (sPg s 3 - 48) 0 0 0 0 0 0)) ax (xO A a1 kt (setI σ 5 0))) W' a1 ad (sC (fS s 0)).2.1 (sC (fS s 0)).2.2.1 (sA (fS s 0)) (sB (fS s 0)) (sF (fS s 0)) (sC (fS s 0)).1 := fun W' hw => ⟨(upH_n (ne hax).symm).trans upH_s, hw, trivial⟩
  refine V.widen (by decide) (by decide) (loop a1 xs.length 0 (by omega) _ (setI σ 5 0) ad ⟨X2, ?_, TT0 _ ha1, ?_, K0.fs hkn.2 (setI_1n (by decide)) 0⟩ (TT0 _ ⟨ha1, ?_⟩) ?_ ⟨rfl, Nat.zero_le _, fun i hi' => absurd hi' (Nat.not_lt_zero i)⟩ (fun f hf => setI_1n hf) (fun _ _ => rfl) ?_)
  · exact fun q hq => F0 q (none0 q hq)
  · exact (S0.frm (Frm.up ha1)).own X1.1
  · exact fun z => occ 0 a1 z n1
  · exact fun q hq => ⟨F0 q (none0 q hq), fun z => occ 0 q z (none0 q hq)⟩
  · intro q hq
    rw [upH_n (fun z => by have := free _ _ hq; rw [z, hH.1.1] at this; cases this), upH_n (fun z => by have := occ _ _ hq; rw [z] at this; exact this n1)]
