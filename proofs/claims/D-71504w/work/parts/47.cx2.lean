/-! THE CLASS: what is told of entries -/
set_option maxRecDepth 100000
theorem c_keyN (de : Nat) (hp : AH) (ax : Nat) : CtE de yX0_keyOf cX0_keyOf 2 (some .int) (rmK 1 0 0) [.ref ax, .null] hp (rI (fun z hp' => z = -1 ∧ hp' = hp)) := by
  refine CtE.of (by decide) (EL.c1 rfl (EL.c1 rfl EL.n0)) (fun Γ h hq hnm hde => ?_)
  refine v_aload_nN (n' := 1) h dX0_keyOf_0 rfl rfl ?_
  refine v_ifnonnullZ (n' := 4) h dX0_keyOf_1 rfl ?_
  refine v_iconst (n' := 5) h dX0_keyOf_4 rfl ?_
  refine v_goto (tgt := 12) h dX0_keyOf_5 rfl ?_
  refine v_iret h hq dX0_keyOf_12 (by omega) (by omega) (ret_i ?_)
  exact ⟨rfl, rfl⟩
theorem c_keyR (de : Nat) (hp : AH) (ax a kd : Nat) (x v : Int) (l r : Option Nat) (he : hp a = some (eO kd x v l r)) (hkd : kd < 5) : CtE de yX0_keyOf cX0_keyOf 2 (some .int) (rmK 1 0 0) [.ref ax, .ref a] hp (rI (fun z hp' => z = x ∧ hp' = hp)) := by
  refine CtE.of (by decide) (EL.c1 rfl (EL.c1 rfl EL.n0)) (fun Γ h hq hnm hde => ?_)
  refine v_aload_n (n' := 1) h dX0_keyOf_0 rfl rfl ?_
  refine v_ifnonnullR (tgt := 8) h dX0_keyOf_1 rfl ?_
  refine v_aload_n (n' := 9) h dX0_keyOf_8 rfl rfl ?_
  refine v_ekey (n' := 12) h q425 dX0_keyOf_9 rfl (by first | assumption | exact upH_s | exact (upH_n (by assumption)).trans (by assumption) | exact (upH_n (by assumption)).trans upH_s | exact (upH_n (by assumption)).trans ((upH_n (by assumption)).trans (by assumption))) (by omega) ?_
  refine v_iret h hq dX0_keyOf_12 (by omega) (by omega) (ret_i ?_)
  exact ⟨rfl, rfl⟩
/-- the key of a tree's root -/
theorem c_keyT (de : Nat) (hp : AH) (W : Nat → Prop) (ad : Nat → Nat) (K U : Nat → Int) (ax : Nat) (T : Tr) (hT : HT hp W ad K U T) : CtE de yX0_keyOf cX0_keyOf 2 (some .int) (rmK 1 0 0) [.ref ax, va_rf ((ro T).map ad)] hp (rI (fun z hp' => z = rk T ∧ hp' = hp)) := by
  cases T with
  | leaf u => exact c_keyN de hp ax
  | branch k l r =>
    obtain ⟨⟨he, hW, hk, hK⟩, -, -⟩ := HT.br.mp hT
    exact c_keyR de hp ax (ad k) _ _ _ _ _ he (by omega)
theorem nxt_leaf (u : Unit) (n : Int) : nxt (.leaf u) n = -1 := rfl
def nxO (T : Tr) (n b : Int) : Int := match (tl T).find? (fun x : Nat => decide (n < (x : Int))) with
  | none => b
  | some x => (x : Int)
theorem nxO_br {x : Nat} {l r : Tr} {n b : Int} (hs : Srt (.branch x l r)) : nxO (.branch x l r) n b = if n < (x : Int) then nxO l n x else nxO r n b := by
  obtain ⟨g1, g2, g3, g4⟩ := srt_br.mp hs
  unfold nxO
  rw [tl_br, List.find?_append]
  by_cases c : n < (x : Int)
  · rw [if_pos c, List.find?_cons_of_pos (by simpa using c)]
    cases (tl l).find? (fun x : Nat => decide (n < (x : Int))) <;> rfl
  · rw [if_neg c, List.find?_cons_of_neg (by simpa using c)]
    have e : (tl l).find? (fun x : Nat => decide (n < (x : Int))) = none := by
      rw [List.find?_eq_none]
      intro y hy
      have := g3 y hy
      simp
      omega
    rw [e]
    rfl
theorem c_nextTo (de : Nat) (hp : AH) (W : Nat → Prop) (ax : Nat) (A : Nat → Nat) (t : Nat) (kt : Option Nat) (σ : MS) (ad : Nat → Nat) (K U : Nat → Int) (a b f : Int) (te : Tre) (hx : hp ax = some (xO A t kt σ)) (hTT : TT hp W t ad K U a b f te) (hs : Srt te.1) (n : Int) (hn : -2147483648 ≤ n ∧ n ≤ 2147483647) : CtE de yX0_nextTo cX0_nextTo 4 (some .int) (rmK 1 0 0) [.ref ax, .int (iI n)] hp (rI (fun z hp' => z = nxt te.1 n ∧ hp' = hp)) := by
  obtain ⟨ht, -, hT⟩ := hTT
  refine CtE.of (by decide) (EL.c1 rfl (EL.c1 rfl (EL.nn (EL.nn EL.n0)))) (fun Γ h hq hnm hde => ?_)
  have loop : ∀ (S : Tr) (b : Int), HT hp W ad K U S → Srt S → (-1 ≤ b ∧ b < 100) → nxO S n b = nxt te.1 n → V Γ 0 0 hp 10 [some (.ref ax), some (.int (iI n)), some (.int (iI b)), some (va_rf ((ro S).map ad))] [] := by
    intro S
    induction S with
    | leaf u =>
      intro b h1 h2 hb h3
      show V Γ 0 0 hp 10 [some (.ref ax), some (.int (iI n)), some (.int (iI b)), some .null] []
      refine v_aload_nN (n' := 11) h dX0_nextTo_10 rfl rfl ?_
      refine v_ifnullZ (tgt := 54) h dX0_nextTo_11 rfl ?_
      refine v_iload_n (n' := 55) h dX0_nextTo_54 rfl rfl ?_
      refine v_iret h hq dX0_nextTo_55 (by omega) (by omega) (ret_i ?_)
      exact ⟨h3, rfl⟩
    | branch x l r ihl ihr =>
      intro b h1 h2 hb h3
      obtain ⟨⟨he, hW, hk, hK⟩, hl, hr⟩ := HT.br.mp h1
      obtain ⟨g1, g2, g3, g4⟩ := srt_br.mp h2
      rw [nxO_br h2] at h3
      show V Γ 0 0 hp 10 [some (.ref ax), some (.int (iI n)), some (.int (iI b)), some (.ref (ad x))] []
      refine v_aload_n (n' := 11) h dX0_nextTo_10 rfl rfl ?_
      refine v_ifnullR (n' := 14) h dX0_nextTo_11 rfl ?_
      refine v_aload_n (n' := 15) h dX0_nextTo_14 rfl rfl ?_
      refine v_ekey (n' := 18) h q425 dX0_nextTo_15 rfl (by first | assumption | exact upH_s | exact (upH_n (by assumption)).trans (by assumption) | exact (upH_n (by assumption)).trans upH_s | exact (upH_n (by assumption)).trans ((upH_n (by assumption)).trans (by assumption))) (by omega) ?_
      refine v_iload_n (n' := 19) h dX0_nextTo_18 rfl rfl ?_
      refine v_icmp_le (n' := 22) (tgt := 29) h dX0_nextTo_19 rfl rfl (by omega) (by omega) (fun c19 => ?_) (fun c19 => ?_)
      · refine v_iload_n (n' := 30) h dX0_nextTo_29 rfl rfl ?_
        refine v_istore2 (n' := 31) h dX0_nextTo_30 rfl rfl ?_
        refine v_aload_n (n' := 32) h dX0_nextTo_31 rfl rfl ?_
        refine v_ekey (n' := 35) h q425 dX0_nextTo_32 rfl (by first | assumption | exact upH_s | exact (upH_n (by assumption)).trans (by assumption) | exact (upH_n (by assumption)).trans upH_s | exact (upH_n (by assumption)).trans ((upH_n (by assumption)).trans (by assumption))) (by omega) ?_
        refine v_iload_n (n' := 36) h dX0_nextTo_35 rfl rfl ?_
        refine v_icmp_le (n' := 39) (tgt := 46) h dX0_nextTo_36 rfl rfl (by omega) (by omega) (fun c36 => ?_) (fun c36 => ?_)
        · refine v_aload_n (n' := 47) h dX0_nextTo_46 rfl rfl ?_
          refine v_eright (n' := 50) h q431 dX0_nextTo_47 rfl (by first | assumption | exact upH_s | exact (upH_n (by assumption)).trans (by assumption) | exact (upH_n (by assumption)).trans upH_s | exact (upH_n (by assumption)).trans ((upH_n (by assumption)).trans (by assumption))) (by omega) ?_
          refine v_astore3Q (n' := 51) h dX0_nextTo_50 rfl rfl ?_
          refine v_goto (tgt := 10) h dX0_nextTo_51 rfl ?_
          exact ihr b hr g2 hb (by rw [← h3, if_neg (by omega)])
        · refine v_aload_n (n' := 40) h dX0_nextTo_39 rfl rfl ?_
          refine v_eleft (n' := 43) h q429 dX0_nextTo_40 rfl (by first | assumption | exact upH_s | exact (upH_n (by assumption)).trans (by assumption) | exact (upH_n (by assumption)).trans upH_s | exact (upH_n (by assumption)).trans ((upH_n (by assumption)).trans (by assumption))) (by omega) ?_
          refine v_goto (tgt := 50) h dX0_nextTo_43 rfl ?_
          refine v_astore3Q (n' := 51) h dX0_nextTo_50 rfl rfl ?_
          refine v_goto (tgt := 10) h dX0_nextTo_51 rfl ?_
          omega
      · refine v_aload_n (n' := 23) h dX0_nextTo_22 rfl rfl ?_
        refine v_ekey (n' := 26) h q425 dX0_nextTo_23 rfl (by first | assumption | exact upH_s | exact (upH_n (by assumption)).trans (by assumption) | exact (upH_n (by assumption)).trans upH_s | exact (upH_n (by assumption)).trans ((upH_n (by assumption)).trans (by assumption))) (by omega) ?_
        refine v_goto (tgt := 30) h dX0_nextTo_26 rfl ?_
        refine v_istore2 (n' := 31) h dX0_nextTo_30 rfl rfl ?_
        refine v_aload_n (n' := 32) h dX0_nextTo_31 rfl rfl ?_
        refine v_ekey (n' := 35) h q425 dX0_nextTo_32 rfl (by first | assumption | exact upH_s | exact (upH_n (by assumption)).trans (by assumption) | exact (upH_n (by assumption)).trans upH_s | exact (upH_n (by assumption)).trans ((upH_n (by assumption)).trans (by assumption))) (by omega) ?_
        refine v_iload_n (n' := 36) h dX0_nextTo_35 rfl rfl ?_
        refine v_icmp_le (n' := 39) (tgt := 46) h dX0_nextTo_36 rfl rfl (by omega) (by omega) (fun c36 => ?_) (fun c36 => ?_)
        · refine v_aload_n (n' := 47) h dX0_nextTo_46 rfl rfl ?_
          refine v_eright (n' := 50) h q431 dX0_nextTo_47 rfl (by first | assumption | exact upH_s | exact (upH_n (by assumption)).trans (by assumption) | exact (upH_n (by assumption)).trans upH_s | exact (upH_n (by assumption)).trans ((upH_n (by assumption)).trans (by assumption))) (by omega) ?_
          refine v_astore3Q (n' := 51) h dX0_nextTo_50 rfl rfl ?_
          refine v_goto (tgt := 10) h dX0_nextTo_51 rfl ?_
          omega
        · refine v_aload_n (n' := 40) h dX0_nextTo_39 rfl rfl ?_
          refine v_eleft (n' := 43) h q429 dX0_nextTo_40 rfl (by first | assumption | exact upH_s | exact (upH_n (by assumption)).trans (by assumption) | exact (upH_n (by assumption)).trans upH_s | exact (upH_n (by assumption)).trans ((upH_n (by assumption)).trans (by assumption))) (by omega) ?_
          refine v_goto (tgt := 50) h dX0_nextTo_43 rfl ?_
          refine v_astore3Q (n' := 51) h dX0_nextTo_50 rfl rfl ?_
          refine v_goto (tgt := 10) h dX0_nextTo_51 rfl ?_
          exact ihl (x : Int) hl g1 (by omega) (by rw [← h3, if_pos (by omega)])
  refine v_iconst (n' := 1) h dX0_nextTo_0 rfl ?_
  refine v_istore2 (n' := 2) h dX0_nextTo_1 rfl rfl ?_
  refine v_aload_n (n' := 3) h dX0_nextTo_2 rfl rfl ?_
  refine v_get (n' := 6) (ci := 0) h rfl in_X0 0 (by decide) q188 rfl dX0_nextTo_3 rfl (by first | assumption | exact upH_s | exact (upH_n (by assumption)).trans (by assumption) | exact (upH_n (by assumption)).trans upH_s | exact (upH_n (by assumption)).trans ((upH_n (by assumption)).trans (by assumption))) (by rfl) ?_
  refine v_getN (n' := 9) (ci := 1) h rfl in_X1 0 (by decide) q119 rfl dX0_nextTo_6 rfl (by first | assumption | exact upH_s | exact (upH_n (by assumption)).trans (by assumption) | exact (upH_n (by assumption)).trans upH_s | exact (upH_n (by assumption)).trans ((upH_n (by assumption)).trans (by assumption))) (by rfl) ?_
  refine v_astore3Q (n' := 10) h dX0_nextTo_9 rfl rfl ?_
  exact loop te.1 (-1) hT hs (by omega) rfl
theorem k_next (de : Nat) (hp : AH) (ax : Nat) (s : SS) (n : Int) (hC : CRel de hp ax s) (hi : SInv s n) (hn : n ≤ 64) (z : Int) (hz : -2147483648 ≤ z ∧ z ≤ 2147483647) : CtE de yX0_next cX0_next 2 (some .int) (rmK 2 0 0) [.ref ax, .int (iI z)] hp (rI (fun r hp' => r = oNext s z ∧ CRel de hp' ax s)) := by
  have hC2 := hC
  obtain ⟨W, A, t, kt, σ, ad, hH, hX⟩ := hC2
  have hr := x_r hX hi hn
  have hx := hH.1.1
  have e1 : σ.1 1 = sSh s := hX.1
  obtain ⟨hs, -⟩ := tr_all hi hn
  unfold oNext
  refine CtE.of (by decide) (EL.c1 rfl (EL.c1 rfl EL.n0)) (fun Γ h hq hnm hde => ?_)
  refine v_aload_n (n' := 1) h dX0_next_0 rfl rfl ?_
  refine vc_callV (n' := 4) (ci := 0) h ((c_isShelf de hp ax A t kt σ hx (by omega)).d hde) rfl (by first | assumption | exact upH_s | exact (upH_n (by assumption)).trans (by assumption) | exact (upH_n (by assumption)).trans upH_s | exact (upH_n (by assumption)).trans ((upH_n (by assumption)).trans (by assumption))) (lw_V q684 q686 qs22 q82 q687) hdX0_isShelf ⟨by omega, by decide⟩ ⟨by omega, by omega⟩ (Nat.le_of_ble_eq_true rfl) dX0_next_1 rfl (eI fun z1 hp1 p1 => ?_) rfl
  obtain ⟨ez1, fz1⟩ := p1
  have ez1 := ez1.symm
  have fz1 := fz1.symm
  subst ez1 fz1
  refine v_bif_eq (n' := 7) (tgt := 15) h dX0_next_4 rfl rfl (fun c4 => ?_) (fun c4 => ?_)
  · refine v_bipush (n' := 17) h dX0_next_15 rfl (by decide) ?_
    refine v_iret h hq dX0_next_17 (by omega) (by omega) (ret_i ?_)
    exact ⟨by rw [if_pos (by omega)], hC⟩
  · refine v_aload_n (n' := 8) h dX0_next_7 rfl rfl ?_
    refine v_iload_n (n' := 9) h dX0_next_8 rfl rfl ?_
    refine vc_callV (n' := 12) (ci := 0) h ((c_nextTo de hp W ax A t kt σ ad _ _ _ _ _ _ hx hH.2.2.1 hs z hz).d hde) rfl (by first | assumption | exact upH_s | exact (upH_n (by assumption)).trans (by assumption) | exact (upH_n (by assumption)).trans upH_s | exact (upH_n (by assumption)).trans ((upH_n (by assumption)).trans (by assumption))) (lw_V q676 q678 qs21 q82 q679) hdX0_nextTo ⟨by omega, by decide⟩ ⟨by omega, by omega⟩ (Nat.le_of_ble_eq_true rfl) dX0_next_9 rfl (eI fun z9 hp9 p9 => ?_) rfl
    obtain ⟨ez9, fz9⟩ := p9
    have ez9 := ez9.symm
    have fz9 := fz9.symm
    subst ez9 fz9
    refine v_goto (tgt := 17) h dX0_next_12 rfl ?_
    refine v_iret h hq dX0_next_17 (by omega) (by omega) (ret_i ?_)
    exact ⟨by rw [if_neg (by omega)], hC⟩
theorem nxt_get {T : Tr} (hs : Srt T) {i : Nat} (h : i < tz T) : nxt T (if i = 0 then -1 else (((tl T).getD (i - 1) 0 : Nat) : Int)) = (((tl T).getD i 0 : Nat) : Int) := by
  have hs : (tl T).Pairwise (· < ·) := hs
  rw [← tz_len] at h
  unfold nxt
  revert hs h
  generalize tl T = L
  intro h hs
  have key : L.find? (fun x : Nat => decide ((if i = 0 then (-1 : Int) else ((L.getD (i - 1) 0 : Nat) : Int)) < (x : Int))) = some (L.getD i 0) := by
    rw [List.find?_eq_some_iff_getElem]
    have e : L.getD i 0 = L[i] := by rw [List.getD_eq_getElem?_getD, List.getElem?_eq_getElem h]; rfl
    refine ⟨?_, i, h, e.symm, fun j hj => ?_⟩
    · by_cases c : i = 0
      · rw [if_pos c]; simp; omega
      · rw [if_neg c]
        have e2 : L.getD (i - 1) 0 = L[i - 1] := by rw [List.getD_eq_getElem?_getD, List.getElem?_eq_getElem (by omega)]; rfl
        have := List.pairwise_iff_getElem.mp hs (i - 1) i (by omega) h (by omega)
        rw [e, e2]
        simp
        exact this
    · rw [if_neg (by omega)]
      have e2 : L.getD (i - 1) 0 = L[i - 1] := by rw [List.getD_eq_getElem?_getD, List.getElem?_eq_getElem (by omega)]; rfl
      rw [e2]
      simp
      by_cases c : j = i - 1
      · subst c; exact Nat.le_refl _
      · exact Nat.le_of_lt (List.pairwise_iff_getElem.mp hs j (i - 1) (by omega) (by omega) (by omega))
  rw [key]
