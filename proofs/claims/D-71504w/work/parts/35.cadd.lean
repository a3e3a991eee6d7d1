/-! LISTS: growing, adding -/
set_option maxRecDepth 100000
theorem ishr1 {n : Nat} (h : n ≤ 1000) : iI (n : Int) >>> (iI 1 &&& 31) = iI ((n / 2 : Nat) : Int) := by
  rw [iI_nI, iI_nI]
  exact pk_shrN (by omega) _ 1 (by decide)
theorem up_l (xs : List Nat) (v : Nat) : va_up (fun i => xs[i]?) xs.length (some v) = fun i => (xs ++ [v])[i]? := by
  funext j
  unfold va_up
  by_cases c : j = xs.length
  · rw [if_pos c, c, List.getElem?_append_right (by omega)]
    simp
  · rw [if_neg c]
    by_cases c2 : j < xs.length
    · rw [List.getElem?_append_left c2]
    · show xs[j]? = (xs ++ [v])[j]?
      rw [List.getElem?_eq_none (by omega), List.getElem?_eq_none (by rw [List.length_append, List.length_singleton]; omega)]
theorem c_grow2 (de : Nat) (hp : AH) (w arr : Nat) (m : Int) (xs : List Nat) (hw : hp w = some (lO m xs.length arr)) (hA : (xs = [] ∧ arr = de) ∨ (xs ≠ [] ∧ hp arr = some (lA (cap xs.length) xs))) (hx : xs.length ≤ 48) (hc : cap xs.length = xs.length) (hE : En hp xs) : CtE de yJ2_grow_2 cJ2_grow_2 4 (some (.array (.object "java/lang/Object"))) (rmK 4 1 (cap (xs.length + 1))) [.ref w, .int (iI (xs.length + 1 : Int))] hp (rR (fun z hp' => hp z = none ∧ hp' = upH (upH hp z (lA (cap (xs.length + 1)) xs)) w (lO m xs.length z))) := by
  obtain ⟨g1, g2, g3, g4, g5, g6⟩ := acG hx hc
  refine CtE.of (by decide) (EL.c1 rfl (EL.c1 rfl (EL.nn (EL.nn EL.n0)))) (fun Γ h hq hnm hde => ?_)
  rcases hA with ⟨rfl, rfl⟩ | ⟨h0, hA⟩
  · have g5 := g5 rfl
    have em : mx 10 ((([] : List Nat).length : Int) + 1) = 10 := by decide
    refine v_aload_n (n' := 1) h dJ2_grow_2_0 rfl rfl ?_
    refine v_get (n' := 4) (ci := 10) h rfl in_J2 1 (by decide) q173 rfl dJ2_grow_2_1 rfl (by first | assumption | exact upH_s | exact (upH_n (by assumption)).trans (by assumption) | exact (upH_n (by assumption)).trans upH_s | exact (upH_n (by assumption)).trans ((upH_n (by assumption)).trans (by assumption))) (by rfl) ?_
    refine v_alenD (n' := 5) h dJ2_grow_2_4 rfl hde ?_
    refine v_istore2 (n' := 6) h dJ2_grow_2_5 rfl rfl ?_
    refine v_iload_n (n' := 7) h dJ2_grow_2_6 rfl rfl ?_
    refine v_if_gt (n' := 10) (tgt := 20) h dJ2_grow_2_7 rfl rfl (by omega) (fun c7 => ?_) (fun c7 => ?_)
    · omega
    · refine v_aload_n (n' := 11) h dJ2_grow_2_10 rfl rfl ?_
      refine v_get (n' := 14) (ci := 10) h rfl in_J2 1 (by decide) q173 rfl dJ2_grow_2_11 rfl (by first | assumption | exact upH_s | exact (upH_n (by assumption)).trans (by assumption) | exact (upH_n (by assumption)).trans upH_s | exact (upH_n (by assumption)).trans ((upH_n (by assumption)).trans (by assumption))) (by rfl) ?_
      refine v_getsD (n' := 17) h q171 dJ2_grow_2_14 rfl hde ?_
      refine v_acmp_eq (n' := 20) (ra := some _) (rb := some _) (tgt := 45) h dJ2_grow_2_17 rfl rfl rfl rfl (fun c17 => ?_) (fun c17 => ?_)
      · refine v_aload_n (n' := 46) h dJ2_grow_2_45 rfl rfl ?_
        refine v_bipush (n' := 48) h dJ2_grow_2_46 rfl (by decide) ?_
        refine v_iload_n (n' := 49) h dJ2_grow_2_48 rfl rfl ?_
        refine v_mmax (n' := 52) h q536 q502 q92 q503 (rm1 (by omega)) (Nat.le_of_ble_eq_true rfl) (rmC (by omega)) (rmS (by omega)) dJ2_grow_2_49 rfl (by simp) (by simp) ?_
        rw [em]
        refine v_anew (n' := 55) h q537 dJ2_grow_2_52 rfl (by omega) (rmC (by omega)) (rmS (by rw [g5]; decide)) (fun a52 n52 => ?_)
        have nw : w ≠ a52 := free_ne hw n52
        refine v_dup_x1 (n' := 56) h dJ2_grow_2_55 rfl rfl rfl ?_
        refine v_put (n' := 59) (ci := 10) h rfl in_J2 tyJ2 tyJ2_ok nmJ2 1 (by decide) q173 rfl rfl dJ2_grow_2_56 rfl (by first | assumption | exact upH_s | exact (upH_n (by assumption)).trans (by assumption) | exact (upH_n (by assumption)).trans upH_s | exact (upH_n (by assumption)).trans ((upH_n (by assumption)).trans (by assumption))) (by show 1 < 3; decide) rfl rfl ?_
        refine v_aret h hq dJ2_grow_2_59 (Or.inr ⟨_, rfl⟩) (Or.inr ⟨_, rfl⟩) (by omega) (by omega) (ret_r ?_)
        exact ⟨n52, by rw [g5]; rfl⟩
      · exact absurd rfl c17
  · have hn : 0 < xs.length := List.length_pos_iff.mpr h0
    obtain ⟨g6, g7⟩ := g6 hn
    rw [hc] at hA
    have e21 : (xs.length : Int) + 1 - (xs.length : Int) = 1 := by omega
    refine v_aload_n (n' := 1) h dJ2_grow_2_0 rfl rfl ?_
    refine v_get (n' := 4) (ci := 10) h rfl in_J2 1 (by decide) q173 rfl dJ2_grow_2_1 rfl (by first | assumption | exact upH_s | exact (upH_n (by assumption)).trans (by assumption) | exact (upH_n (by assumption)).trans upH_s | exact (upH_n (by assumption)).trans ((upH_n (by assumption)).trans (by assumption))) (by rfl) ?_
    refine v_alen (n' := 5) h dJ2_grow_2_4 rfl (by first | assumption | exact upH_s | exact (upH_n (by assumption)).trans (by assumption) | exact (upH_n (by assumption)).trans upH_s | exact (upH_n (by assumption)).trans ((upH_n (by assumption)).trans (by assumption))) (by decide) ?_
    refine v_istore2 (n' := 6) h dJ2_grow_2_5 rfl rfl ?_
    refine v_iload_n (n' := 7) h dJ2_grow_2_6 rfl rfl ?_
    refine v_if_gt (n' := 10) (tgt := 20) h dJ2_grow_2_7 rfl rfl (by omega) (fun c7 => ?_) (fun c7 => ?_)
    · refine v_iload_n (n' := 21) h dJ2_grow_2_20 rfl rfl ?_
      refine v_iload_n (n' := 22) h dJ2_grow_2_21 rfl rfl ?_
      refine v_iload_n (n' := 23) h dJ2_grow_2_22 rfl rfl ?_
      refine v_isub (n' := 24) h dJ2_grow_2_23 rfl ?_
      rw [e21]
      refine v_iload_n (n' := 25) h dJ2_grow_2_24 rfl rfl ?_
      refine v_iconst (n' := 26) h dJ2_grow_2_25 rfl ?_
      refine v_ishr (n' := 27) h dJ2_grow_2_26 rfl (ishr1 (by omega)) ?_
      refine vc_callS (n' := 30) h ((c_newLen de hp (xs.length : Int) 1 ((xs.length / 2 : Nat) : Int) (by omega) (by omega) (by omega)).d hde) (lw_S q498 q499 q100 q500) hdJ8_newLength ⟨by omega, by decide⟩ ⟨by omega, by omega⟩ (Nat.le_of_ble_eq_true rfl) dJ2_grow_2_27 rfl (eI fun z27 hp27 p27 => ?_) rfl
      obtain ⟨ez27, fz27⟩ := p27
      have ez27 := ez27.symm
      have fz27 := fz27.symm
      subst ez27 fz27
      rw [show (xs.length : Int) + ((xs.length / 2 : Nat) : Int) = ((cap (xs.length + 1) : Nat) : Int) by omega]
      refine v_istore3 (n' := 31) h dJ2_grow_2_30 rfl rfl ?_
      refine v_aload_n (n' := 32) h dJ2_grow_2_31 rfl rfl ?_
      refine v_aload_n (n' := 33) h dJ2_grow_2_32 rfl rfl ?_
      refine v_get (n' := 36) (ci := 10) h rfl in_J2 1 (by decide) q173 rfl dJ2_grow_2_33 rfl (by first | assumption | exact upH_s | exact (upH_n (by assumption)).trans (by assumption) | exact (upH_n (by assumption)).trans upH_s | exact (upH_n (by assumption)).trans ((upH_n (by assumption)).trans (by assumption))) (by rfl) ?_
      refine v_iload_n (n' := 37) h dJ2_grow_2_36 rfl rfl ?_
      refine vc_callS (n' := 40) h ((c_copy1 de hp arr (cap (xs.length + 1)) xs hA (by omega) (by omega) hE).d hde) (lw_S q508 q509 q101 q510) hdJ9_copyOf ⟨by omega, by decide⟩ ⟨by omega, by omega⟩ (Nat.le_of_ble_eq_true rfl) dJ2_grow_2_37 rfl (eR fun z37 hp37 p37 => ?_) rfl
      obtain ⟨n37, p37⟩ := p37
      subst p37
      have nw : w ≠ z37 := free_ne hw n37
      refine v_dup_x1 (n' := 41) h dJ2_grow_2_40 rfl rfl rfl ?_
      refine v_put (n' := 44) (ci := 10) h rfl in_J2 tyJ2 tyJ2_ok nmJ2 1 (by decide) q173 rfl rfl dJ2_grow_2_41 rfl (by first | assumption | exact upH_s | exact (upH_n (by assumption)).trans (by assumption) | exact (upH_n (by assumption)).trans upH_s | exact (upH_n (by assumption)).trans ((upH_n (by assumption)).trans (by assumption))) (by show 1 < 3; decide) rfl rfl ?_
      refine v_aret h hq dJ2_grow_2_44 (Or.inr ⟨_, rfl⟩) (Or.inr ⟨_, rfl⟩) (by omega) (by omega) (ret_r ?_)
      exact ⟨n37, rfl⟩
    · omega
theorem c_grow1 (de : Nat) (hp : AH) (w arr : Nat) (m : Int) (xs : List Nat) (hw : hp w = some (lO m xs.length arr)) (hA : (xs = [] ∧ arr = de) ∨ (xs ≠ [] ∧ hp arr = some (lA (cap xs.length) xs))) (hx : xs.length ≤ 48) (hc : cap xs.length = xs.length) (hE : En hp xs) : CtE de yJ2_grow cJ2_grow 1 (some (.array (.object "java/lang/Object"))) (rmK 5 1 (cap (xs.length + 1))) [.ref w] hp (rR (fun z hp' => hp z = none ∧ hp' = upH (upH hp z (lA (cap (xs.length + 1)) xs)) w (lO m xs.length z))) := by
  refine CtE.of (by decide) (EL.c1 rfl EL.n0) (fun Γ h hq hnm hde => ?_)
  refine v_aload_n (n' := 1) h dJ2_grow_0 rfl rfl ?_
  refine v_aload_n (n' := 2) h dJ2_grow_1 rfl rfl ?_
  refine v_get (n' := 5) (ci := 10) h rfl in_J2 2 (by decide) q174 rfl dJ2_grow_2 rfl (by first | assumption | exact upH_s | exact (upH_n (by assumption)).trans (by assumption) | exact (upH_n (by assumption)).trans upH_s | exact (upH_n (by assumption)).trans ((upH_n (by assumption)).trans (by assumption))) (by rfl) ?_
  refine v_iconst (n' := 6) h dJ2_grow_5 rfl ?_
  refine v_iadd (n' := 7) h dJ2_grow_6 rfl ?_
  refine vc_callV (n' := 10) (ci := 10) h ((c_grow2 de hp w arr m xs hw hA hx hc hE).d hde) rfl (by first | assumption | exact upH_s | exact (upH_n (by assumption)).trans (by assumption) | exact (upH_n (by assumption)).trans upH_s | exact (upH_n (by assumption)).trans ((upH_n (by assumption)).trans (by assumption))) (lw_V q494 q496 qs9 q86 q497) hdJ2_grow_2 ⟨by omega, by decide⟩ ⟨by omega, by omega⟩ (Nat.le_of_ble_eq_true rfl) dJ2_grow_7 rfl (eR fun z7 hp7 p7 => ?_) rfl
  refine v_aret h hq dJ2_grow_10 (Or.inr ⟨_, rfl⟩) (Or.inr ⟨_, rfl⟩) (by omega) (by omega) (ret_r ?_)
  exact p7
theorem c_add2 (de : Nat) (hp : AH) (W : Nat → Prop) (w arr v kd : Nat) (fs : List Value) (m : Int) (xs : List Nat) (hw : hp w = some (lO m xs.length arr)) (hW : W w) (hA : (xs = [] ∧ arr = de) ∨ (xs ≠ [] ∧ W arr ∧ hp arr = some (lA (cap xs.length) xs))) (hx : xs.length ≤ 48) (hE : En hp xs) (hf : Fre W hp) (hkd : kd < 5) (hv : hp v = some (.inr (5 + kd, fs))) : CtE de yJ2_add_2 cJ2_add_2 4 none (rmK 6 (acC (xs.length + 1) - acC xs.length) (acS (xs.length + 1) - acS xs.length)) [.ref w, .ref v, .ref arr, .int (iI xs.length)] hp
    (rV (fun hp' => ∃ arr', hp' w = some (lO m (xs.length + 1) arr') ∧ W arr' ∧ hp' arr' = some (lA (cap (xs.length + 1)) (xs ++ [v])) ∧ Frm W hp hp')) := by
  have hcr := cap_r (n := xs.length) (by omega)
  by_cases hc : cap xs.length = xs.length
  · obtain ⟨g1, g2, g3, g4, g5, g6⟩ := acG hx hc
    have hA' : (xs = [] ∧ arr = de) ∨ (xs ≠ [] ∧ hp arr = some (lA (cap xs.length) xs)) := hA.imp id (fun z => ⟨z.1, z.2.2⟩)
    refine CtE.of (by decide) (EL.c1 rfl (EL.c1 rfl (EL.c1 rfl (EL.c1 rfl EL.n0)))) (fun Γ h hq hnm hde => ?_)
    have tail : V Γ 0 0 hp 6 [some (.ref w), some (.ref v), some (.ref arr), some (.int (iI xs.length))] [] := by
      refine v_aload_n (n' := 7) h dJ2_add_2_6 rfl rfl ?_
      refine vc_callV (n' := 10) (ci := 10) h ((c_grow1 de hp w arr m xs hw hA' hx hc hE).d hde) rfl (by first | assumption | exact upH_s | exact (upH_n (by assumption)).trans (by assumption) | exact (upH_n (by assumption)).trans upH_s | exact (upH_n (by assumption)).trans ((upH_n (by assumption)).trans (by assumption))) (lw_V q490 q492 qs8 q86 q493) hdJ2_grow ⟨by omega, by decide⟩ ⟨by omega, by omega⟩ (Nat.le_of_ble_eq_true rfl) dJ2_add_2_7 rfl (eR fun z7 hp7 p7 => ?_) rfl
      obtain ⟨n7, p7⟩ := p7
      subst p7
      have nw : w ≠ z7 := free_ne hw n7
      have nv : v ≠ z7 := free_ne hv n7
      have nvw : v ≠ w := cell_ne hv hw (by intro z; have := Sum.inr.inj z; have := congrArg Prod.fst this; simp at this; omega)
      have nw' := nw.symm
      refine v_astore2 (n' := 11) h dJ2_add_2_10 rfl rfl ?_
      refine v_aload_n (n' := 12) h dJ2_add_2_11 rfl rfl ?_
      refine v_iload_n (n' := 13) h dJ2_add_2_12 rfl rfl ?_
      refine v_aload_n (n' := 14) h dJ2_add_2_13 rfl rfl ?_
      refine v_aast (n' := 15) h hkd dJ2_add_2_14 rfl ((upH_n nw').trans upH_s) ((upH_n nvw).trans ((upH_n nv).trans hv)) (by omega) (by omega) ?_
      rw [Int.toNat_natCast, up_l]
      refine v_aload_n (n' := 16) h dJ2_add_2_15 rfl rfl ?_
      refine v_iload_n (n' := 17) h dJ2_add_2_16 rfl rfl ?_
      refine v_iconst (n' := 18) h dJ2_add_2_17 rfl ?_
      refine v_iadd (n' := 19) h dJ2_add_2_18 rfl ?_
      refine v_put (n' := 22) (ci := 10) h rfl in_J2 tyJ2 tyJ2_ok nmJ2 2 (by decide) q174 rfl rfl dJ2_add_2_19 rfl ((upH_n nw).trans upH_s) (by show 2 < 3; decide) rfl rfl ?_
      refine v_vret h hq dJ2_add_2_22 (by omega) (by omega) (ret_v ?_)
      exact ⟨z7, upH_s, hf z7 n7, (upH_n nw').trans upH_s, (((Frm.up (hf z7 n7)).tr (Frm.up hW)).tr (Frm.up (hf z7 n7))).tr (Frm.up hW)⟩
    rcases hA with ⟨rfl, rfl⟩ | ⟨h0, h1, hA⟩
    · skip
      refine v_iload_n (n' := 1) h dJ2_add_2_0 rfl rfl ?_
      refine v_aload_n (n' := 2) h dJ2_add_2_1 rfl rfl ?_
      refine v_alenD (n' := 3) h dJ2_add_2_2 rfl hde ?_
      refine v_icmp_ne (n' := 6) (tgt := 11) h dJ2_add_2_3 rfl rfl (by omega) (by omega) (fun c3 => ?_) (fun c3 => ?_)
      · exact absurd rfl c3
      · exact tail
    · skip
      refine v_iload_n (n' := 1) h dJ2_add_2_0 rfl rfl ?_
      refine v_aload_n (n' := 2) h dJ2_add_2_1 rfl rfl ?_
      refine v_alen (n' := 3) h dJ2_add_2_2 rfl (by first | assumption | exact upH_s | exact (upH_n (by assumption)).trans (by assumption) | exact (upH_n (by assumption)).trans upH_s | exact (upH_n (by assumption)).trans ((upH_n (by assumption)).trans (by assumption))) (by decide) ?_
      refine v_icmp_ne (n' := 6) (tgt := 11) h dJ2_add_2_3 rfl rfl (by omega) (by omega) (fun c3 => ?_) (fun c3 => ?_)
      · exact absurd (by rw [hc]) c3
      · exact tail
  · obtain ⟨g1, g2, g3, g4⟩ := acN hx hc
    rcases hA with ⟨rfl, -⟩ | ⟨h0, h1, hA⟩
    · exact absurd rfl hc
    have nvw : v ≠ w := cell_ne hv hw (by intro z; have := Sum.inr.inj z; have := congrArg Prod.fst this; simp at this; omega)
    have nwa : w ≠ arr := cell_ne hw hA (fun z => by cases z)
    have nwa' := nwa.symm
    refine CtE.of (by decide) (EL.c1 rfl (EL.c1 rfl (EL.c1 rfl (EL.c1 rfl EL.n0)))) (fun Γ h hq hnm hde => ?_)
    refine v_iload_n (n' := 1) h dJ2_add_2_0 rfl rfl ?_
    refine v_aload_n (n' := 2) h dJ2_add_2_1 rfl rfl ?_
    refine v_alen (n' := 3) h dJ2_add_2_2 rfl (by first | assumption | exact upH_s | exact (upH_n (by assumption)).trans (by assumption) | exact (upH_n (by assumption)).trans upH_s | exact (upH_n (by assumption)).trans ((upH_n (by assumption)).trans (by assumption))) (by decide) ?_
    refine v_icmp_ne (n' := 6) (tgt := 11) h dJ2_add_2_3 rfl rfl (by omega) (by omega) (fun c3 => ?_) (fun c3 => ?_)
    · refine v_aload_n (n' := 12) h dJ2_add_2_11 rfl rfl ?_
      refine v_iload_n (n' := 13) h dJ2_add_2_12 rfl rfl ?_
      refine v_aload_n (n' := 14) h dJ2_add_2_13 rfl rfl ?_
      refine v_aast (n' := 15) h hkd dJ2_add_2_14 rfl hA hv (by omega) (by omega) ?_
      rw [Int.toNat_natCast, up_l]
      refine v_aload_n (n' := 16) h dJ2_add_2_15 rfl rfl ?_
      refine v_iload_n (n' := 17) h dJ2_add_2_16 rfl rfl ?_
      refine v_iconst (n' := 18) h dJ2_add_2_17 rfl ?_
      refine v_iadd (n' := 19) h dJ2_add_2_18 rfl ?_
      refine v_put (n' := 22) (ci := 10) h rfl in_J2 tyJ2 tyJ2_ok nmJ2 2 (by decide) q174 rfl rfl dJ2_add_2_19 rfl (by first | assumption | exact upH_s | exact (upH_n (by assumption)).trans (by assumption) | exact (upH_n (by assumption)).trans upH_s | exact (upH_n (by assumption)).trans ((upH_n (by assumption)).trans (by assumption))) (by show 2 < 3; decide) rfl rfl ?_
      refine v_vret h hq dJ2_add_2_22 (by omega) (by omega) (ret_v ?_)
      exact ⟨arr, upH_s, h1, by rw [g3]; exact (upH_n nwa').trans upH_s, (Frm.up h1).tr (Frm.up hW)⟩
    · omega
theorem c_add (de : Nat) (hp : AH) (W : Nat → Prop) (w v kd : Nat) (fs : List Value) (xs : List Nat) (hl : Ls hp W de w xs) (hx : xs.length ≤ 48) (hE : En hp xs) (hf : Fre W hp) (hkd : kd < 5) (hv : hp v = some (.inr (5 + kd, fs))) : CtE de yJ2_add cJ2_add 2 (some .boolean) (rmK 7 (acC (xs.length + 1) - acC xs.length) (acS (xs.length + 1) - acS xs.length)) [.ref w, .ref v] hp
    (rI (fun z hp' => z = 1 ∧ Ls hp' W de w (xs ++ [v]) ∧ Frm W hp hp')) := by
  obtain ⟨arr, hw, hW, hA⟩ := hl
  have nvw : v ≠ w := cell_ne hv hw (by intro z; have := Sum.inr.inj z; have := congrArg Prod.fst this; simp at this; omega)
  have hA2 : (xs = [] ∧ arr = de) ∨ (xs ≠ [] ∧ W arr ∧ upH hp w (lO ((xs.length : Int) + 1) xs.length arr) arr = some (lA (cap xs.length) xs)) := by
    rcases hA with hA | ⟨h1, h2, h3⟩
    · exact Or.inl hA
    · exact Or.inr ⟨h1, h2, (upH_n (cell_ne hw h3 (fun z => by cases z)).symm).trans h3⟩
  have hE2 : En (upH hp w (lO ((xs.length : Int) + 1) xs.length arr)) xs := by
    intro y hy
    obtain ⟨kd', fs', k1, k2⟩ := hE y hy
    exact ⟨kd', fs', k1, (upH_n (cell_ne k2 hw (by intro z; have := Sum.inr.inj z; have := congrArg Prod.fst this; simp at this; omega))).trans k2⟩
  refine CtE.of (by decide) (EL.c1 rfl (EL.c1 rfl EL.n0)) (fun Γ h hq hnm hde => ?_)
  refine v_aload_n (n' := 1) h dJ2_add_0 rfl rfl ?_
  refine v_dup (n' := 2) h dJ2_add_1 rfl rfl ?_
  refine v_modget (n' := 5) h q176 dJ2_add_2 rfl (by first | assumption | exact upH_s | exact (upH_n (by assumption)).trans (by assumption) | exact (upH_n (by assumption)).trans upH_s | exact (upH_n (by assumption)).trans ((upH_n (by assumption)).trans (by assumption))) ?_
  refine v_iconst (n' := 6) h dJ2_add_5 rfl ?_
  refine v_iadd (n' := 7) h dJ2_add_6 rfl ?_
  refine v_modput (n' := 10) h q176 dJ2_add_7 rfl (by first | assumption | exact upH_s | exact (upH_n (by assumption)).trans (by assumption) | exact (upH_n (by assumption)).trans upH_s | exact (upH_n (by assumption)).trans ((upH_n (by assumption)).trans (by assumption))) ?_
  refine v_aload_n (n' := 11) h dJ2_add_10 rfl rfl ?_
  refine v_aload_n (n' := 12) h dJ2_add_11 rfl rfl ?_
  refine v_aload_n (n' := 13) h dJ2_add_12 rfl rfl ?_
  refine v_get (n' := 16) (ci := 10) h rfl in_J2 1 (by decide) q173 rfl dJ2_add_13 rfl (by first | assumption | exact upH_s | exact (upH_n (by assumption)).trans (by assumption) | exact (upH_n (by assumption)).trans upH_s | exact (upH_n (by assumption)).trans ((upH_n (by assumption)).trans (by assumption))) (by rfl) ?_
  refine v_aload_n (n' := 17) h dJ2_add_16 rfl rfl ?_
  refine v_get (n' := 20) (ci := 10) h rfl in_J2 2 (by decide) q174 rfl dJ2_add_17 rfl (by first | assumption | exact upH_s | exact (upH_n (by assumption)).trans (by assumption) | exact (upH_n (by assumption)).trans upH_s | exact (upH_n (by assumption)).trans ((upH_n (by assumption)).trans (by assumption))) (by rfl) ?_
  refine vc_callV (n' := 23) (ci := 10) h ((c_add2 de _ W w arr v kd fs ((xs.length : Int) + 1) xs upH_s hW hA2 hx hE2 ((Frm.up hW).fre hf) hkd ((upH_n nvw).trans hv)).d hde) rfl (by first | assumption | exact upH_s | exact (upH_n (by assumption)).trans (by assumption) | exact (upH_n (by assumption)).trans upH_s | exact (upH_n (by assumption)).trans ((upH_n (by assumption)).trans (by assumption))) (lw_V q486 q488 qs7 q86 q489) hdJ2_add_2 ⟨by omega, by decide⟩ ⟨by omega, by omega⟩ (Nat.le_of_ble_eq_true rfl) dJ2_add_20 rfl (eV fun hp20 p20 => ?_) rfl
  obtain ⟨arr', e1, e2, e3, e4⟩ := p20
  refine v_iconst (n' := 24) h dJ2_add_23 rfl ?_
  refine v_zret h hq dJ2_add_24 (by decide) (by omega) (by omega) (ret_i ?_)
  exact ⟨rfl, ⟨arr', by rw [List.length_append]; exact e1, hW, Or.inr ⟨by simp, e2, by rw [List.length_append]; exact e3⟩⟩, (Frm.up hW).tr e4⟩
