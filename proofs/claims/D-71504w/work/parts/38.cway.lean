/-! TREES of entries: the way to a key, limit, pay, hang -/
set_option maxRecDepth 100000
theorem acW (xs : List Nat) (y c s : Nat) : c + acC xs.length + (acC (xs.length + 1) - acC xs.length) ≤ c + acC (xs ++ [y]).length ∧ s + acS xs.length + (acS (xs.length + 1) - acS xs.length) ≤ s + acS (xs ++ [y]).length := by
  have := acM xs.length
  rw [List.length_append, List.length_singleton]
  omega
theorem c_wayTo (de : Nat) (hp : AH) (W : Nat → Prop) (ad : Nat → Nat) (K U : Nat → Int) (T : Tr) (hT : HT hp W ad K U T) (hz : tz T ≤ 48) (t : Nat) (a b f m s c lo g co : Int) (ht : hp t = some (tO ((ro T).map ad) a b f m s c lo g co)) (key : Nat) (hkey : key < 100) : CtE de yX1_wayTo cX1_wayTo 4 (some (.object "java/util/ArrayList")) (rmK 9 6 132) [.ref t, .int (iI key)] hp (rR (fun w hp' => Ls hp' (Fsh hp) de w ((way T key).map ad) ∧ Frm (Fsh hp) hp hp')) := by
  refine CtE.of (by decide) (EL.c1 rfl (EL.c1 rfl (EL.nn (EL.nn EL.n0)))) (fun Γ h hq hnm hde => ?_)
  have fin : ∀ (w : Nat) (xs : List Nat) (hp1 : AH), xs = (way T key).map ad → Ls hp1 (Fsh hp) de w xs → Frm (Fsh hp) hp hp1 → V Γ (1 + acC xs.length) (3 + acS xs.length) hp1 13 [some (.ref t), some (.int (iI key)), some (.ref w), some .null] [] := by
    intro w xs hp1 e1 e2 e3
    have b1 := acB xs.length
    refine v_aload_nN (n' := 14) h dX1_wayTo_13 rfl rfl ?_
    refine v_ifnullZ (tgt := 58) h dX1_wayTo_14 rfl ?_
    refine v_aload_n (n' := 59) h dX1_wayTo_58 rfl rfl ?_
    refine v_aret h hq dX1_wayTo_59 (Or.inl ⟨_, rfl⟩) (Or.inr ⟨_, rfl⟩) (by omega) (by omega) (ret_r ?_)
    exact ⟨by rw [← e1]; exact e2, e3⟩
  have loop : ∀ (S : Tr) (pre xs : List Nat) (w : Nat) (hp1 : AH), HT hp W ad K U S → xs = pre.map ad → way T key = pre ++ way S key → Ls hp1 (Fsh hp) de w xs → Frm (Fsh hp) hp hp1 → V Γ (1 + acC xs.length) (3 + acS xs.length) hp1 13 [some (.ref t), some (.int (iI key)), some (.ref w), some (va_rf ((ro S).map ad))] [] := by
    intro S
    induction S with
    | leaf u =>
      intro pre xs w hp1 h1 h2 h3 h4 h5
      exact fin w xs hp1 (by rw [h2, h3]; simp [way]) h4 h5
    | branch x l r ihl ihr =>
      intro pre xs w hp1 h1 h2 h3 h4 h5
      obtain ⟨⟨he, hW, hk, hK⟩, hl, hr⟩ := HT.br.mp h1
      have hlen : pre.length + 1 ≤ tz T := by
        have q := way_len (T := T) (k := key)
        rw [h3, List.length_append] at q
        have : 1 ≤ (way (.branch x l r) key).length := by rw [way_br]; split <;> (try split) <;> simp
        omega
      have hxl : xs.length = pre.length := by rw [h2, List.length_map]
      have b1 := acB (xs.length + 1)
      have b2 := acM xs.length
      have he1 := h5.ex he
      have hE : En hp1 xs := by
        rw [h2]
        exact (hT.ex (fun q e => h5.ex)).en (fun y hy => way_mem (k := key) (by rw [h3]; exact List.mem_append_left _ hy))
      obtain ⟨arr, hL1, hL2, hL3⟩ := h4
      show V Γ (1 + acC xs.length) (3 + acS xs.length) hp1 13 [some (.ref t), some (.int (iI key)), some (.ref w), some (.ref (ad x))] []
      refine v_aload_n (n' := 14) h dX1_wayTo_13 rfl rfl ?_
      refine v_ifnullR (n' := 17) h dX1_wayTo_14 rfl ?_
      refine v_aload_n (n' := 18) h dX1_wayTo_17 rfl rfl ?_
      refine v_aload_n (n' := 19) h dX1_wayTo_18 rfl rfl ?_
      refine vc_callV (n' := 22) (ci := 10) h ((c_add de hp1 (Fsh hp) w (ad x) (K x).toNat _ xs ⟨arr, hL1, hL2, hL3⟩ (by omega) hE (h5.fre Fre.sh) (by omega) he1).d hde) rfl (by first | assumption | exact upH_s | exact (upH_n (by assumption)).trans (by assumption) | exact (upH_n (by assumption)).trans upH_s | exact (upH_n (by assumption)).trans ((upH_n (by assumption)).trans (by assumption))) (lw_V q570 q483 q484 q86 q485) hdJ2_add ⟨by omega, by decide⟩ ⟨by omega, by omega⟩ (Nat.le_of_ble_eq_true rfl) dX1_wayTo_19 rfl (eI fun z19 hp19 p19 => ?_) rfl
      obtain ⟨-, hL, hF⟩ := p19
      have he2 := (h5.tr hF).ex he
      have hw := acW xs (ad x) 1 3
      refine v_pop (n' := 23) h dX1_wayTo_22 rfl rfl ?_
      refine v_iload_n (n' := 24) h dX1_wayTo_23 rfl rfl ?_
      refine v_aload_n (n' := 25) h dX1_wayTo_24 rfl rfl ?_
      refine v_ekey (n' := 28) h q424 dX1_wayTo_25 rfl (by first | assumption | exact upH_s | exact (upH_n (by assumption)).trans (by assumption) | exact (upH_n (by assumption)).trans upH_s | exact (upH_n (by assumption)).trans ((upH_n (by assumption)).trans (by assumption))) (by omega) ?_
      refine v_icmp_ne (n' := 31) (tgt := 35) h dX1_wayTo_28 rfl rfl (by omega) (by omega) (fun c28 => ?_) (fun c28 => ?_)
      · refine v_iload_n (n' := 36) h dX1_wayTo_35 rfl rfl ?_
        refine v_aload_n (n' := 37) h dX1_wayTo_36 rfl rfl ?_
        refine v_ekey (n' := 40) h q424 dX1_wayTo_37 rfl (by first | assumption | exact upH_s | exact (upH_n (by assumption)).trans (by assumption) | exact (upH_n (by assumption)).trans upH_s | exact (upH_n (by assumption)).trans ((upH_n (by assumption)).trans (by assumption))) (by omega) ?_
        refine v_icmp_ge (n' := 43) (tgt := 50) h dX1_wayTo_40 rfl rfl (by omega) (by omega) (fun c40 => ?_) (fun c40 => ?_)
        · refine v_aload_n (n' := 51) h dX1_wayTo_50 rfl rfl ?_
          refine v_eright (n' := 54) h q430 dX1_wayTo_51 rfl (by first | assumption | exact upH_s | exact (upH_n (by assumption)).trans (by assumption) | exact (upH_n (by assumption)).trans upH_s | exact (upH_n (by assumption)).trans ((upH_n (by assumption)).trans (by assumption))) (by omega) ?_
          refine v_astore3Q (n' := 55) h dX1_wayTo_54 rfl rfl ?_
          refine v_goto (tgt := 13) h dX1_wayTo_55 rfl ?_
          exact V.widen hw.1 hw.2 (ihr (pre ++ [x]) _ w hp19 hr (by rw [h2, List.map_append]; rfl) (by rw [h3, way_br, if_neg (by omega), if_neg (by omega), List.append_assoc]; rfl) hL (h5.tr hF))
        · refine v_aload_n (n' := 44) h dX1_wayTo_43 rfl rfl ?_
          refine v_eleft (n' := 47) h q428 dX1_wayTo_44 rfl (by first | assumption | exact upH_s | exact (upH_n (by assumption)).trans (by assumption) | exact (upH_n (by assumption)).trans upH_s | exact (upH_n (by assumption)).trans ((upH_n (by assumption)).trans (by assumption))) (by omega) ?_
          refine v_goto (tgt := 54) h dX1_wayTo_47 rfl ?_
          refine v_astore3Q (n' := 55) h dX1_wayTo_54 rfl rfl ?_
          refine v_goto (tgt := 13) h dX1_wayTo_55 rfl ?_
          exact V.widen hw.1 hw.2 (ihl (pre ++ [x]) _ w hp19 hl (by rw [h2, List.map_append]; rfl) (by rw [h3, way_br, if_neg (by omega), if_pos (by omega), List.append_assoc]; rfl) hL (h5.tr hF))
      · refine v_null (n' := 32) h dX1_wayTo_31 rfl ?_
        refine v_goto (tgt := 54) h dX1_wayTo_32 rfl ?_
        refine v_astore3N (n' := 55) h dX1_wayTo_54 rfl rfl ?_
        refine v_goto (tgt := 13) h dX1_wayTo_55 rfl ?_
        exact V.widen hw.1 hw.2 (fin w _ hp19 (by rw [h3, h2, way_br, if_pos (by omega), List.map_append]; rfl) hL (h5.tr hF))
  refine v_new (n' := 3) (ci := 10) h rfl in_J2 tyJ2 tyJ2_ok q568 q160 q86 (fs := dvJ2) dvJ2_ok dX1_wayTo_0 rfl (rmC (by omega)) (rmS (by omega)) (fun a0 n0 => ?_)
  refine v_dup (n' := 4) h dX1_wayTo_3 rfl rfl ?_
  refine vc_callI (n' := 7) h ((c_linit de _ a0 upH_s).d hde) q163 q86 q569 q162 rfl hdJ2_init ⟨by omega, by decide⟩ ⟨by omega, by omega⟩ (Nat.le_of_ble_eq_true rfl) dX1_wayTo_4 rfl (eV fun hp4 p4 => ?_) rfl
  subst p4
  rw [upH_up]
  have nt : t ≠ a0 := free_ne ht n0
  refine v_astore2 (n' := 8) h dX1_wayTo_7 rfl rfl ?_
  refine v_aload_n (n' := 9) h dX1_wayTo_8 rfl rfl ?_
  refine v_get (n' := 12) (ci := 1) h rfl in_X1 0 (by decide) q118 rfl dX1_wayTo_9 rfl (by first | assumption | exact upH_s | exact (upH_n (by assumption)).trans (by assumption) | exact (upH_n (by assumption)).trans upH_s | exact (upH_n (by assumption)).trans ((upH_n (by assumption)).trans (by assumption))) (by rfl) ?_
  refine v_astore3Q (n' := 13) h dX1_wayTo_12 rfl rfl ?_
  exact loop T [] [] a0 _ hT rfl rfl ⟨de, upH_s, n0, Or.inl ⟨rfl, rfl⟩⟩ (Frm.up n0)
theorem c_limit (de : Nat) (hp : AH) (t : Nat) (o : Option Nat) (a b f m s c lo g co : Int) (ht : hp t = some (tO o a b f m s c lo g co)) (n : Int) (hab : isRat a b) (hn : 0 ≤ n ∧ n ≤ 41) : CtE de yX1_limit cX1_limit 7 (some .int) (rmK 1 0 0) [.ref t, .int (iI n)] hp (rI (fun z hp' => z = (lim a b n : Int) ∧ hp' = hp)) := by
  have ab := rat_cases hab
  refine CtE.of (by decide) (EL.c1 rfl (EL.c1 rfl (EL.nn (EL.nn (EL.nn (EL.nn (EL.nn EL.n0))))))) (fun Γ h hq hnm hde => ?_)
  have loop : ∀ (F G : Nat) (up dn : Int), F + G + 1 = 17 → up = b ^ (G + 1) → dn = a ^ (G + 1) * n → limF (F + 1) a b n G = lim a b n → V Γ 0 0 hp 19 [some (.ref t), some (.int (iI n)), some (.long (lI up)), none, some (.long (lI dn)), none, some (.int (iI (G : Int)))] [] := by
    intro F
    induction F with
    | zero =>
      intro G up dn hg hup hdn hl
      obtain rfl : G = 16 := by omega
      have e : ¬ b ^ (16 + 1) ≤ a ^ (16 + 1) * n := lim_end hab hn
      have b1 := pw_b (x := b) (by omega) (h := 16) (by omega)
      have b2 := mul_bd (pw_b (x := a) (by omega) (h := 16) (by omega)) hn
      unfold limF at hl
      rw [if_neg e] at hl
      refine v_lload_n (n' := 20) h dX1_limit_19 rfl rfl ?_
      refine v_lload (n' := 22) h dX1_limit_20 rfl rfl ?_
      refine v_lcmp (n' := 23) h dX1_limit_22 rfl (by omega) (by omega) ?_
      refine v_cif_gt (n' := 26) (tgt := 50) h dX1_limit_23 rfl rfl (fun c23 => ?_) (fun c23 => ?_)
      · refine v_iload (n' := 52) h dX1_limit_50 rfl rfl ?_
        refine v_iret h hq dX1_limit_52 (by omega) (by omega) (ret_i ?_)
        exact ⟨by omega, rfl⟩
      · exact absurd (show b ^ (16 + 1) ≤ a ^ (16 + 1) * n by omega) e
    | succ F ih =>
      intro G up dn hg hup hdn hl
      have b1 := pw_b (x := b) (by omega) (h := G) (by omega)
      have b2 := mul_bd (pw_b (x := a) (by omega) (h := G) (by omega)) hn
      have eg : ((G + 1 : Nat) : Int) = (G : Int) + 1 := by omega
      refine v_lload_n (n' := 20) h dX1_limit_19 rfl rfl ?_
      refine v_lload (n' := 22) h dX1_limit_20 rfl rfl ?_
      refine v_lcmp (n' := 23) h dX1_limit_22 rfl (by omega) (by omega) ?_
      refine v_cif_gt (n' := 26) (tgt := 50) h dX1_limit_23 rfl rfl (fun c23 => ?_) (fun c23 => ?_)
      · refine v_iload (n' := 52) h dX1_limit_50 rfl rfl ?_
        refine v_iret h hq dX1_limit_52 (by omega) (by omega) (ret_i ?_)
        refine ⟨?_, rfl⟩
        rw [← hl]
        unfold limF
        rw [if_neg (by omega)]
      · refine v_lload_n (n' := 27) h dX1_limit_26 rfl rfl ?_
        refine v_aload_n (n' := 28) h dX1_limit_27 rfl rfl ?_
        refine v_get (n' := 31) (ci := 1) h rfl in_X1 2 (by decide) q122 rfl dX1_limit_28 rfl (by first | assumption | exact upH_s | exact (upH_n (by assumption)).trans (by assumption) | exact (upH_n (by assumption)).trans upH_s | exact (upH_n (by assumption)).trans ((upH_n (by assumption)).trans (by assumption))) (by rfl) ?_
        refine v_i2l (n' := 32) h dX1_limit_31 rfl (by omega) ?_
        refine v_lmul (n' := 33) h dX1_limit_32 rfl ?_
        refine v_lstore2 (n' := 34) h dX1_limit_33 rfl rfl ?_
        refine v_lload (n' := 36) h dX1_limit_34 rfl rfl ?_
        refine v_aload_n (n' := 37) h dX1_limit_36 rfl rfl ?_
        refine v_get (n' := 40) (ci := 1) h rfl in_X1 1 (by decide) q120 rfl dX1_limit_37 rfl (by first | assumption | exact upH_s | exact (upH_n (by assumption)).trans (by assumption) | exact (upH_n (by assumption)).trans upH_s | exact (upH_n (by assumption)).trans ((upH_n (by assumption)).trans (by assumption))) (by rfl) ?_
        refine v_i2l (n' := 41) h dX1_limit_40 rfl (by omega) ?_
        refine v_lmul (n' := 42) h dX1_limit_41 rfl ?_
        refine v_lstore4 (n' := 44) h dX1_limit_42 rfl rfl ?_
        refine v_iinc6 (n' := 47) h dX1_limit_44 rfl rfl ?_
        refine v_goto (tgt := 19) h dX1_limit_47 rfl ?_
        rw [← eg]
        refine ih (G + 1) _ _ (by omega) (by rw [hup, Int.pow_succ b (G + 1)]) (by rw [hdn, Int.pow_succ a (G + 1)]; rw [Int.mul_assoc, Int.mul_comm n a, ← Int.mul_assoc]) ?_
        rw [← hl]
        conv => rhs; unfold limF
        rw [if_pos (by omega)]
  refine v_aload_n (n' := 1) h dX1_limit_0 rfl rfl ?_
  refine v_get (n' := 4) (ci := 1) h rfl in_X1 2 (by decide) q122 rfl dX1_limit_1 rfl (by first | assumption | exact upH_s | exact (upH_n (by assumption)).trans (by assumption) | exact (upH_n (by assumption)).trans upH_s | exact (upH_n (by assumption)).trans ((upH_n (by assumption)).trans (by assumption))) (by rfl) ?_
  refine v_i2l (n' := 5) h dX1_limit_4 rfl (by omega) ?_
  refine v_lstore2 (n' := 6) h dX1_limit_5 rfl rfl ?_
  refine v_iload_n (n' := 7) h dX1_limit_6 rfl rfl ?_
  refine v_i2l (n' := 8) h dX1_limit_7 rfl (by omega) ?_
  refine v_aload_n (n' := 9) h dX1_limit_8 rfl rfl ?_
  refine v_get (n' := 12) (ci := 1) h rfl in_X1 1 (by decide) q120 rfl dX1_limit_9 rfl (by first | assumption | exact upH_s | exact (upH_n (by assumption)).trans (by assumption) | exact (upH_n (by assumption)).trans upH_s | exact (upH_n (by assumption)).trans ((upH_n (by assumption)).trans (by assumption))) (by rfl) ?_
  refine v_i2l (n' := 13) h dX1_limit_12 rfl (by omega) ?_
  refine v_lmul (n' := 14) h dX1_limit_13 rfl ?_
  refine v_lstore4 (n' := 16) h dX1_limit_14 rfl rfl ?_
  refine v_iconst (n' := 17) h dX1_limit_16 rfl ?_
  refine v_istore6 (n' := 19) h dX1_limit_17 rfl rfl ?_
  exact loop 16 0 _ _ (by omega) (by simp [Int.pow_succ]) (by rw [show a ^ (0 + 1) = a by simp [Int.pow_succ], Int.mul_comm]) rfl
theorem mn_c (a b : Int) : mn a b = mn b a := by unfold mn; split <;> split <;> omega
theorem c_pay (de : Nat) (hp : AH) (t : Nat) (o : Option Nat) (a b f m s c lo g co : Int) (ht : hp t = some (tO o a b f m s c lo g co)) (x : Int) (hx : -1000000 ≤ x ∧ x ≤ 1000000) (hc : -100000000 ≤ c ∧ c ≤ 100000000) (hl : -100000000 ≤ lo ∧ lo ≤ 100000000) : CtE de yX1_pay cX1_pay 2 none (rmK 2 0 0) [.ref t, .int (iI x)] hp (rV (fun hp' => hp' = upH hp t (tO o a b f m s (payN (c, lo) x).1 (payN (c, lo) x).2 g co))) := by
  refine CtE.of (by decide) (EL.c1 rfl (EL.c1 rfl EL.n0)) (fun Γ h hq hnm hde => ?_)
  refine v_aload_n (n' := 1) h dX1_pay_0 rfl rfl ?_
  refine v_dup (n' := 2) h dX1_pay_1 rfl rfl ?_
  refine v_get (n' := 5) (ci := 1) h rfl in_X1 6 (by decide) q130 rfl dX1_pay_2 rfl (by first | assumption | exact upH_s | exact (upH_n (by assumption)).trans (by assumption) | exact (upH_n (by assumption)).trans upH_s | exact (upH_n (by assumption)).trans ((upH_n (by assumption)).trans (by assumption))) (by rfl) ?_
  refine v_iload_n (n' := 6) h dX1_pay_5 rfl rfl ?_
  refine v_iadd (n' := 7) h dX1_pay_6 rfl ?_
  refine v_put (n' := 10) (ci := 1) h rfl in_X1 tyX1 tyX1_ok nmX1 6 (by decide) q130 rfl rfl dX1_pay_7 rfl (by first | assumption | exact upH_s | exact (upH_n (by assumption)).trans (by assumption) | exact (upH_n (by assumption)).trans upH_s | exact (upH_n (by assumption)).trans ((upH_n (by assumption)).trans (by assumption))) (by show 6 < 10; decide) rfl rfl ?_
  refine v_aload_n (n' := 11) h dX1_pay_10 rfl rfl ?_
  refine v_aload_n (n' := 12) h dX1_pay_11 rfl rfl ?_
  refine v_get (n' := 15) (ci := 1) h rfl in_X1 7 (by decide) q132 rfl dX1_pay_12 rfl (by first | assumption | exact upH_s | exact (upH_n (by assumption)).trans (by assumption) | exact (upH_n (by assumption)).trans upH_s | exact (upH_n (by assumption)).trans ((upH_n (by assumption)).trans (by assumption))) (by rfl) ?_
  refine v_aload_n (n' := 16) h dX1_pay_15 rfl rfl ?_
  refine v_get (n' := 19) (ci := 1) h rfl in_X1 6 (by decide) q130 rfl dX1_pay_16 rfl (by first | assumption | exact upH_s | exact (upH_n (by assumption)).trans (by assumption) | exact (upH_n (by assumption)).trans upH_s | exact (upH_n (by assumption)).trans ((upH_n (by assumption)).trans (by assumption))) (by rfl) ?_
  refine v_mmin (n' := 22) h q579 q379 q92 q380 (rm1 (by omega)) (Nat.le_of_ble_eq_true rfl) (rmC (by omega)) (rmS (by omega)) dX1_pay_19 rfl (by omega) (by omega) ?_
  refine v_put (n' := 25) (ci := 1) h rfl in_X1 tyX1 tyX1_ok nmX1 7 (by decide) q132 rfl rfl dX1_pay_22 rfl (by first | assumption | exact upH_s | exact (upH_n (by assumption)).trans (by assumption) | exact (upH_n (by assumption)).trans upH_s | exact (upH_n (by assumption)).trans ((upH_n (by assumption)).trans (by assumption))) (by show 7 < 10; decide) rfl rfl ?_
  refine v_vret h hq dX1_pay_25 (by omega) (by omega) (ret_v ?_)
  rw [upH_up, mn_c]; rfl
theorem c_tooMuch (de : Nat) (hp : AH) (W : Nat → Prop) (ad : Nat → Nat) (K U : Nat → Int) (k : Nat) (l r : Tr) (hT : HT hp W ad K U (.branch k l r)) (hz : tz (.branch k l r) ≤ 48) (t : Nat) (o : Option Nat) (a b f m s c lo g co : Int) (ht : hp t = some (tO o a b f m s c lo g co)) (hab : isRat a b) : CtE de yX1_isTooMuch cX1_isTooMuch 2 (some .boolean) (rmK 51 0 0) [.ref t, .ref (ad k)] hp (rI (fun z hp' => z = bi (lop a b (.branch k l r)) ∧ hp' = hp)) := by
  have ab := rat_cases hab
  obtain ⟨⟨he, hW, hk, hK⟩, hl, hr⟩ := HT.br.mp hT
  have hz2 := hz
  simp only [tz] at hz2
  have e0 : mx (tz l : Int) (tz r : Int) = tz l ∧ (tz r : Int) ≤ tz l ∨ mx (tz l : Int) (tz r : Int) = tz r ∧ (tz l : Int) ≤ tz r := by unfold mx; split <;> omega
  have e1 : ((tz (.branch k l r) : Nat) : Int) = (tz l : Int) + tz r + 1 := by simp only [tz]; omega
  have hiff : b * mx (tz l : Int) (tz r : Int) > a * ((tz l : Int) + tz r + 1) ↔ lop a b (.branch k l r) := by
    unfold lop
    rcases ab with ⟨rfl, rfl⟩ | ⟨rfl, rfl⟩ | ⟨rfl, rfl⟩ | ⟨rfl, rfl⟩ <;> omega
  have r1 : -2147483648 ≤ b * mx (tz l : Int) (tz r : Int) ∧ b * mx (tz l : Int) (tz r : Int) ≤ 2147483647 := by
    rcases ab with ⟨rfl, rfl⟩ | ⟨rfl, rfl⟩ | ⟨rfl, rfl⟩ | ⟨rfl, rfl⟩ <;> omega
  have r2 : -2147483648 ≤ a * ((tz l : Int) + tz r + 1) ∧ a * ((tz l : Int) + tz r + 1) ≤ 2147483647 := by
    rcases ab with ⟨rfl, rfl⟩ | ⟨rfl, rfl⟩ | ⟨rfl, rfl⟩ | ⟨rfl, rfl⟩ <;> omega
  refine CtE.of (by decide) (EL.c1 rfl (EL.c1 rfl EL.n0)) (fun Γ h hq hnm hde => ?_)
  refine v_aload_n (n' := 1) h dX1_isTooMuch_0 rfl rfl ?_
  refine v_get (n' := 4) (ci := 1) h rfl in_X1 2 (by decide) q122 rfl dX1_isTooMuch_1 rfl (by first | assumption | exact upH_s | exact (upH_n (by assumption)).trans (by assumption) | exact (upH_n (by assumption)).trans upH_s | exact (upH_n (by assumption)).trans ((upH_n (by assumption)).trans (by assumption))) (by rfl) ?_
  refine v_aload_n (n' := 5) h dX1_isTooMuch_4 rfl rfl ?_
  refine v_eleft (n' := 8) h q428 dX1_isTooMuch_5 rfl (by first | assumption | exact upH_s | exact (upH_n (by assumption)).trans (by assumption) | exact (upH_n (by assumption)).trans upH_s | exact (upH_n (by assumption)).trans ((upH_n (by assumption)).trans (by assumption))) (by omega) ?_
  refine vc_callSN (n' := 11) h ((c_sizeOf de hp W ad K U l hl 48 (by omega) (by omega)).d hde) q590 q82 q588 q589 hdX0_sizeOf ⟨by omega, by decide⟩ ⟨by omega, by omega⟩ (Nat.le_of_ble_eq_true rfl) dX1_isTooMuch_8 rfl (eI fun z8 hp8 p8 => ?_) rfl
  obtain ⟨ez8, fz8⟩ := p8
  have ez8 := ez8.symm
  have fz8 := fz8.symm
  subst ez8 fz8
  refine v_aload_n (n' := 12) h dX1_isTooMuch_11 rfl rfl ?_
  refine v_eright (n' := 15) h q430 dX1_isTooMuch_12 rfl (by first | assumption | exact upH_s | exact (upH_n (by assumption)).trans (by assumption) | exact (upH_n (by assumption)).trans upH_s | exact (upH_n (by assumption)).trans ((upH_n (by assumption)).trans (by assumption))) (by omega) ?_
  refine vc_callSN (n' := 18) h ((c_sizeOf de hp W ad K U r hr 48 (by omega) (by omega)).d hde) q590 q82 q588 q589 hdX0_sizeOf ⟨by omega, by decide⟩ ⟨by omega, by omega⟩ (Nat.le_of_ble_eq_true rfl) dX1_isTooMuch_15 rfl (eI fun z15 hp15 p15 => ?_) rfl
  obtain ⟨ez15, fz15⟩ := p15
  have ez15 := ez15.symm
  have fz15 := fz15.symm
  subst ez15 fz15
  refine v_mmax (n' := 21) h q574 q502 q92 q503 (rm1 (by omega)) (Nat.le_of_ble_eq_true rfl) (rmC (by omega)) (rmS (by omega)) dX1_isTooMuch_18 rfl (by omega) (by omega) ?_
  refine v_imul (n' := 22) h dX1_isTooMuch_21 rfl ?_
  refine v_aload_n (n' := 23) h dX1_isTooMuch_22 rfl rfl ?_
  refine v_get (n' := 26) (ci := 1) h rfl in_X1 1 (by decide) q120 rfl dX1_isTooMuch_23 rfl (by first | assumption | exact upH_s | exact (upH_n (by assumption)).trans (by assumption) | exact (upH_n (by assumption)).trans upH_s | exact (upH_n (by assumption)).trans ((upH_n (by assumption)).trans (by assumption))) (by rfl) ?_
  refine v_aload_n (n' := 27) h dX1_isTooMuch_26 rfl rfl ?_
  refine vc_callSN (n' := 30) h ((c_sizeOf de hp W ad K U (.branch k l r) hT 48 (by omega) (by omega)).d hde) q590 q82 q588 q589 hdX0_sizeOf ⟨by omega, by decide⟩ ⟨by omega, by omega⟩ (Nat.le_of_ble_eq_true rfl) dX1_isTooMuch_27 rfl (eI fun z27 hp27 p27 => ?_) rfl
  obtain ⟨ez27, fz27⟩ := p27
  have fz27 := fz27.symm
  rw [e1] at ez27
  subst ez27 fz27
  refine v_imul (n' := 31) h dX1_isTooMuch_30 rfl ?_
  refine v_icmp_le (n' := 34) (tgt := 38) h dX1_isTooMuch_31 rfl rfl (by assumption) (by assumption) (fun c31 => ?_) (fun c31 => ?_)
  · refine v_iconst (n' := 39) h dX1_isTooMuch_38 rfl ?_
    refine v_zret h hq dX1_isTooMuch_39 (by decide) (by omega) (by omega) (ret_i ?_)
    exact ⟨(bi_f (fun z => by have := hiff.mpr z; omega)).symm, rfl⟩
  · refine v_iconst (n' := 35) h dX1_isTooMuch_34 rfl ?_
    refine v_goto (tgt := 39) h dX1_isTooMuch_35 rfl ?_
    refine v_zret h hq dX1_isTooMuch_39 (by decide) (by omega) (by omega) (ret_i ?_)
    exact ⟨(bi_t (hiff.mp (by omega))).symm, rfl⟩
theorem c_hangT (de : Nat) (hp : AH) (t : Nat) (o was now : Option Nat) (a b f m s c lo g co : Int) (ht : hp t = some (tO o a b f m s c lo g co)) : CtE de yX1_hang cX1_hang 4 none (rmK 1 0 0) [.ref t, .null, va_rf was, va_rf now] hp (rV (fun hp' => hp' = upH hp t (tO now a b f m s c lo g co))) := by
  refine CtE.of (by decide) (EL.c1 rfl (EL.c1 rfl (EL.c1 (c1_rf _) (EL.c1 (c1_rf _) EL.n0)))) (fun Γ h hq hnm hde => ?_)
  refine v_aload_nN (n' := 1) h dX1_hang_0 rfl rfl ?_
  refine v_ifnonnullZ (n' := 4) h dX1_hang_1 rfl ?_
  refine v_aload_n (n' := 5) h dX1_hang_4 rfl rfl ?_
  refine v_aload_nQ (n' := 6) h dX1_hang_5 rfl rfl ?_
  refine v_put (n' := 9) (ci := 1) h rfl in_X1 tyX1 tyX1_ok nmX1 0 (by decide) q118 rfl rfl dX1_hang_6 rfl (by first | assumption | exact upH_s | exact (upH_n (by assumption)).trans (by assumption) | exact (upH_n (by assumption)).trans upH_s | exact (upH_n (by assumption)).trans ((upH_n (by assumption)).trans (by assumption))) (by show 0 < 10; decide) (nr_rf _ _) (ft_rf _ _) ?_
  refine v_goto (tgt := 33) h dX1_hang_9 rfl ?_
  refine v_vret h hq dX1_hang_33 (by omega) (by omega) (ret_v ?_)
  rfl
theorem c_hangE (de : Nat) (hp : AH) (t p kd : Nat) (x v : Int) (l r was now : Option Nat) (hkd : kd < 5) (he : hp p = some (eO kd x v l r)) : CtE de yX1_hang cX1_hang 4 none (rmK 1 0 0) [.ref t, .ref p, va_rf was, va_rf now] hp (rV (fun hp' => hp' = upH hp p (if l = was then eO kd x v now r else eO kd x v l now))) := by
  refine CtE.of (by decide) (EL.c1 rfl (EL.c1 rfl (EL.c1 (c1_rf _) (EL.c1 (c1_rf _) EL.n0)))) (fun Γ h hq hnm hde => ?_)
  refine v_aload_n (n' := 1) h dX1_hang_0 rfl rfl ?_
  refine v_ifnonnullR (tgt := 12) h dX1_hang_1 rfl ?_
  refine v_aload_n (n' := 13) h dX1_hang_12 rfl rfl ?_
  refine v_eleft (n' := 16) h q428 dX1_hang_13 rfl (by first | assumption | exact upH_s | exact (upH_n (by assumption)).trans (by assumption) | exact (upH_n (by assumption)).trans upH_s | exact (upH_n (by assumption)).trans ((upH_n (by assumption)).trans (by assumption))) (by omega) ?_
  refine v_aload_nQ (n' := 17) h dX1_hang_16 rfl rfl ?_
  refine v_acmp_ne (n' := 20) (tgt := 28) h dX1_hang_17 rfl rfl rfl rfl (fun c17 => ?_) (fun c17 => ?_)
  · refine v_aload_n (n' := 29) h dX1_hang_28 rfl rfl ?_
    refine v_aload_nQ (n' := 30) h dX1_hang_29 rfl rfl ?_
    refine v_pright (n' := 33) h q430 dX1_hang_30 rfl (by first | assumption | exact upH_s | exact (upH_n (by assumption)).trans (by assumption) | exact (upH_n (by assumption)).trans upH_s | exact (upH_n (by assumption)).trans ((upH_n (by assumption)).trans (by assumption))) (by omega) ?_
    refine v_vret h hq dX1_hang_33 (by omega) (by omega) (ret_v ?_)
    rw [if_neg c17]
  · refine v_aload_n (n' := 21) h dX1_hang_20 rfl rfl ?_
    refine v_aload_nQ (n' := 22) h dX1_hang_21 rfl rfl ?_
    refine v_pleft (n' := 25) h q428 dX1_hang_22 rfl (by first | assumption | exact upH_s | exact (upH_n (by assumption)).trans (by assumption) | exact (upH_n (by assumption)).trans upH_s | exact (upH_n (by assumption)).trans ((upH_n (by assumption)).trans (by assumption))) (by omega) ?_
    refine v_goto (tgt := 33) h dX1_hang_25 rfl ?_
    refine v_vret h hq dX1_hang_33 (by omega) (by omega) (ret_v ?_)
    rw [if_pos c17]
