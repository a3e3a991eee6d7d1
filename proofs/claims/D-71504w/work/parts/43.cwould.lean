/-! TREES of entries: would, copies -/
set_option maxRecDepth 100000
theorem way_next {T : Tr} {k : Nat} (hs : Srt T) : ∀ (i y y' : Nat), (way T k)[i]? = some y → (way T k)[i + 1]? = some y' → ∃ l r, sub T y = .branch y l r ∧ (sub T y' = l ∨ sub T y' = r) := by
  induction T with
  | leaf u => intro i y y' h; simp [way] at h
  | branch x l r ihl ihr =>
    obtain ⟨g1, g2, g3, g4⟩ := srt_br.mp hs
    intro i y y' h h'
    rw [way_br] at h h'
    by_cases c : k = x
    · rw [if_pos c] at h'
      simp at h'
    · rw [if_neg c] at h h'
      by_cases c2 : k < x
      · rw [if_pos c2] at h h'
        have h' : (way l k)[i]? = some y' := h'
        have hy' := g3 y' (way_mem (List.mem_of_getElem? h'))
        cases i with
        | zero =>
          cases h
          refine ⟨l, r, by rw [sub_br, if_pos rfl], Or.inl ?_⟩
          rw [sub_br, if_neg (by omega), if_pos hy']
          cases l with
          | leaf u => simp [way] at h'
          | branch z l1 l2 =>
            have hz : y' = z := by
              rw [way_br] at h'
              split at h'
              · simp at h'; exact h'.symm
              · split at h' <;> (simp at h'; exact h'.symm)
            rw [sub_br, if_pos hz]
        | succ i =>
          have h : (way l k)[i]? = some y := h
          have hy := g3 y (way_mem (List.mem_of_getElem? h))
          obtain ⟨l1, r1, q1, q2⟩ := ihl g1 i y y' h h'
          refine ⟨l1, r1, by rw [sub_br, if_neg (by omega), if_pos hy]; exact q1, ?_⟩
          rw [sub_br, if_neg (by omega), if_pos hy']
          exact q2
      · rw [if_neg c2] at h h'
        have h' : (way r k)[i]? = some y' := h'
        have hy' := g4 y' (way_mem (List.mem_of_getElem? h'))
        cases i with
        | zero =>
          cases h
          refine ⟨l, r, by rw [sub_br, if_pos rfl], Or.inr ?_⟩
          rw [sub_br, if_neg (by omega), if_neg (by omega)]
          cases r with
          | leaf u => simp [way] at h'
          | branch z l1 l2 =>
            have hz : y' = z := by
              rw [way_br] at h'
              split at h'
              · simp at h'; exact h'.symm
              · split at h' <;> (simp at h'; exact h'.symm)
            rw [sub_br, if_pos hz]
        | succ i =>
          have h : (way r k)[i]? = some y := h
          have hy := g4 y (way_mem (List.mem_of_getElem? h))
          obtain ⟨l1, r1, q1, q2⟩ := ihr g2 i y y' h h'
          refine ⟨l1, r1, by rw [sub_br, if_neg (by omega), if_neg (by omega)]; exact q1, ?_⟩
          rw [sub_br, if_neg (by omega), if_neg (by omega)]
          exact q2
theorem sub_insW {T : Tr} {k y : Nat} (hs : Srt T) (hk : k ∉ tl T) (hy : y ∈ way T k) : tz (sub (ins T k) y) = tz (sub T y) + 1 := by
  induction T with
  | leaf u => simp [way] at hy
  | branch x l r ihl ihr =>
    obtain ⟨g1, g2, g3, g4⟩ := srt_br.mp hs
    have c : ¬ k = x := fun e => hk (mem_br.mpr (Or.inr (Or.inl e)))
    have hnl : k ∉ tl l := fun z => hk (mem_br.mpr (Or.inl z))
    have hnr : k ∉ tl r := fun z => hk (mem_br.mpr (Or.inr (Or.inr z)))
    rw [way_br, if_neg c] at hy
    rw [ins_br]
    by_cases c2 : k < x
    · rw [if_pos c2] at hy ⊢
      rcases List.mem_cons.mp hy with rfl | hy
      · rw [sub_br, if_pos rfl, sub_br, if_pos rfl]
        simp only [tz, ins_tz]
        omega
      · have := g3 y (way_mem hy)
        rw [sub_br, if_neg (by omega), if_pos this, sub_br, if_neg (by omega), if_pos this]
        exact ihl g1 hnl hy
    · rw [if_neg c2] at hy ⊢
      rcases List.mem_cons.mp hy with rfl | hy
      · rw [sub_br, if_pos rfl, sub_br, if_pos rfl]
        simp only [tz, ins_tz]
        omega
      · have := g4 y (way_mem hy)
        rw [sub_br, if_neg (by omega), if_neg (by omega), sub_br, if_neg (by omega), if_neg (by omega)]
        exact ihr g2 hnr hy
theorem c_would (de : Nat) (hp : AH) (W : Nat → Prop) (t : Nat) (ad : Nat → Nat) (K U : Nat → Int) (a b f : Int) (te : Tre) (hTT : TT hp W t ad K U a b f te) (hs : Srt te.1) (hz : tz te.1 ≤ 40) (hab : isRat a b) (key : Nat) (hk : key ∉ tl te.1) (hk1 : key < 100) :
    CtE de yX1_would cX1_would 7 (some .int) (rmK 51 6 132) [.ref t, .int (iI key)] hp (rI (fun z hp' => z = ((entR a b te.1 key).2 : Int) ∧ Frm (Fsh hp) hp hp')) := by
  obtain ⟨ht, hWt, hT⟩ := hTT
  obtain ⟨T, mo, bu, co, cr, lo⟩ := te
  dsimp only at ht hT hs hz hk ⊢
  have ht : hp t = some (tO ((ro T).map ad) a b f (tz T : Int) mo cr lo bu co) := ht
  have ab := rat_cases hab
  have hwl := way_len (T := T) (k := key)
  have hlen : ((way T key).map ad).length = (way T key).length := List.length_map ..
  have hdep : dep (ins T key) key = (way T key).length := by unfold dep; rw [ins_way hk]; simp
  have hsT := ins_srt hs hk
  have hwi := ins_way hk
  have hrev : scp a b (ins T key) (way (ins T key) key).reverse = scp a b (ins T key) (way T key).reverse := by
    rw [hwi, List.reverse_append]
    refine scp_cons.2 ?_
    rw [sub_ins hk]
    simp only [lop, tz]
    rcases ab with ⟨rfl, rfl⟩ | ⟨rfl, rfl⟩ | ⟨rfl, rfl⟩ | ⟨rfl, rfl⟩ <;> omega
  have hlim : lim a b ((tz T : Int) + 1) ≤ 17 := limF_le 17 0 a b _
  refine CtE.of (by decide) (EL.c1 rfl (EL.c1 rfl (EL.nn (EL.nn (EL.nn (EL.nn (EL.nn EL.n0))))))) (fun Γ h hq hnm hde => ?_)
  have loop : ∀ (w : Nat) (hp2 : AH), Frm (Fsh hp) hp hp2 → Ls hp2 (Fsh hp) de w ((way T key).map ad) → ∀ (j : Nat) (bl y' : Nat) (v5 v6 : Option Value), c2 v5 = false → j ≤ (way T key).length → (way (ins T key) key)[j]? = some y' → bl = tz (sub (ins T key) y') → scp a b (ins T key) (way T key).reverse = scp a b (ins T key) ((way T key).take j).reverse → V Γ 6 132 hp2 16 [some (.ref t), some (.int (iI key)), some (.ref w), some (.int (iI bl)), some (.int (iI ((j : Int) - 1))), v5, v6] [] := by
    intro w hp2 F2 L2
    have ht2 := F2.ex ht
    have hT2 := hT.ex (fun q e => F2.ex)
    obtain ⟨arr, hl2⟩ := L2.len
    rw [hlen] at hl2
    intro j
    induction j with
    | zero =>
      intro bl y' v5 v6 hv5 hj hy' hbl hsc
      refine v_iload (n' := 18) h dX1_would_16 rfl rfl ?_
      refine v_if_lt (n' := 21) (tgt := 95) h dX1_would_18 rfl rfl (by omega) (fun c18 => ?_) (fun c18 => ?_)
      · refine v_iconst (n' := 96) h dX1_would_95 rfl ?_
        refine v_iret h hq dX1_would_96 (by omega) (by omega) (ret_i ?_)
        refine ⟨?_, F2⟩
        by_cases hg : (dep (ins T key) key : Int) ≤ (lim a b ((tz T : Int) + 1) : Int)
        · rw [entR_a hg]; rfl
        · rw [entR_b hg (hrev.trans (hsc.trans rfl))]; rfl
      · omega
    | succ j ih =>
      intro bl y' v5 v6 hv5 hj hy' hbl hsc
      obtain ⟨y, hy⟩ : ∃ y, (way T key)[j]? = some y := ⟨_, List.getElem?_eq_getElem (by omega)⟩
      have hgy : ((way T key).map ad)[j]? = some (ad y) := by rw [List.getElem?_map, hy]; rfl
      have hyw := List.mem_of_getElem? hy
      have hyT := way_mem hyw
      have hyi : (way (ins T key) key)[j]? = some y := by rw [hwi, List.getElem?_append_left (by omega)]; exact hy
      obtain ⟨sl, sr, hsub⟩ := sub_root hs hyT
      have hSy := hT2.sub y
      have hzy : tz (sub T y) ≤ 40 := Nat.le_trans sub_len hz
      have hzw := sub_insW hs hk hyw
      obtain ⟨l', r', e1, e2⟩ := way_next hsT j y y' hyi hy'
      have hty : tz (sub (ins T key) y) = tz l' + tz r' + 1 := by rw [e1]; rfl
      have hbl2 : (bl = tz l' ∨ bl = tz r') := by rcases e2 with q | q <;> rw [q] at hbl <;> omega
      have hcy : ∃ l1 r1, hp2 (ad y) = some (eO (K y).toNat y (U y) l1 r1) ∧ (0 ≤ K y ∧ K y ≤ 4) := by
        obtain ⟨l1, r1, q1, -, -, q4⟩ := hT2.at hyT
        exact ⟨l1, r1, q1, q4⟩
      obtain ⟨l1, r1, hcy, hKy⟩ := hcy
      have htk : (way T key).take (j + 1) = (way T key).take j ++ [y] := by rw [List.take_add_one, hy]; rfl
      rw [htk, List.reverse_append] at hsc
      have hsc : scp a b (ins T key) (way T key).reverse = scp a b (ins T key) (y :: ((way T key).take j).reverse) := hsc
      have hsz : ((tz (sub T y) : Nat) : Int) + 1 = (tz l' : Int) + tz r' + 1 := by omega
      have emx : mx (bl : Int) (((tz (sub T y) : Nat) : Int) + 1 - 1 - (bl : Int)) = mx (tz l' : Int) (tz r' : Int) := by
        rcases hbl2 with q | q
        · rw [show ((tz (sub T y) : Nat) : Int) + 1 - 1 - (bl : Int) = (tz r' : Int) by omega, q]
        · rw [show ((tz (sub T y) : Nat) : Int) + 1 - 1 - (bl : Int) = (tz l' : Int) by omega, q, mx_c]
      have e0 : mx (tz l' : Int) (tz r' : Int) = tz l' ∧ (tz r' : Int) ≤ tz l' ∨ mx (tz l' : Int) (tz r' : Int) = tz r' ∧ (tz l' : Int) ≤ tz r' := by unfold mx; split <;> omega
      have hiff : b * mx (tz l' : Int) (tz r' : Int) > a * (((tz (sub T y) : Nat) : Int) + 1) ↔ lop a b (sub (ins T key) y) := by
        rw [e1, hsz]
        unfold lop
        rcases ab with ⟨rfl, rfl⟩ | ⟨rfl, rfl⟩ | ⟨rfl, rfl⟩ | ⟨rfl, rfl⟩ <;> omega
      have q1 : -2147483648 ≤ b * mx (tz l' : Int) (tz r' : Int) ∧ b * mx (tz l' : Int) (tz r' : Int) ≤ 2147483647 := by
        rcases ab with ⟨rfl, rfl⟩ | ⟨rfl, rfl⟩ | ⟨rfl, rfl⟩ | ⟨rfl, rfl⟩ <;> omega
      have q2 : -2147483648 ≤ a * (((tz (sub T y) : Nat) : Int) + 1) ∧ a * (((tz (sub T y) : Nat) : Int) + 1) ≤ 2147483647 := by
        rcases ab with ⟨rfl, rfl⟩ | ⟨rfl, rfl⟩ | ⟨rfl, rfl⟩ | ⟨rfl, rfl⟩ <;> omega
      have ej : ((j + 1 : Nat) : Int) - 1 = (j : Int) := by omega
      rw [ej]
      have hroS : (ro (sub T y)).map ad = some (ad y) := by rw [hsub]; rfl
      have c51 := c_sizeOf de hp2 W ad K U (sub T y) hSy 48 (by omega) (by omega)
      rw [hroS] at c51
      refine v_iload (n' := 18) h dX1_would_16 rfl rfl ?_
      refine v_if_lt (n' := 21) (tgt := 95) h dX1_would_18 rfl rfl (by omega) (fun c18 => ?_) (fun c18 => ?_)
      · omega
      · refine v_aload_n (n' := 22) h dX1_would_21 rfl rfl ?_
        refine vc_callV (n' := 25) (ci := 10) h ((c_size de hp2 w _ _ arr hl2).d hde) rfl (by first | assumption | exact upH_s | exact (upH_n (by assumption)).trans (by assumption) | exact (upH_n (by assumption)).trans upH_s | exact (upH_n (by assumption)).trans ((upH_n (by assumption)).trans (by assumption))) (lw_V q571 q394 q395 q86 q396) hdJ2_size ⟨by omega, by decide⟩ ⟨by omega, by omega⟩ (Nat.le_of_ble_eq_true rfl) dX1_would_22 rfl (eI fun z22 hp22 p22 => ?_) rfl
        obtain ⟨ez22, fz22⟩ := p22
        have ez22 := ez22.symm
        have fz22 := fz22.symm
        subst ez22 fz22
        refine v_aload_n (n' := 26) h dX1_would_25 rfl rfl ?_
        refine v_aload_n (n' := 27) h dX1_would_26 rfl rfl ?_
        refine v_get (n' := 30) (ci := 1) h rfl in_X1 4 (by decide) q126 rfl dX1_would_27 rfl (by first | assumption | exact upH_s | exact (upH_n (by assumption)).trans (by assumption) | exact (upH_n (by assumption)).trans upH_s | exact (upH_n (by assumption)).trans ((upH_n (by assumption)).trans (by assumption))) (by rfl) ?_
        refine v_iconst (n' := 31) h dX1_would_30 rfl ?_
        refine v_iadd (n' := 32) h dX1_would_31 rfl ?_
        refine vc_callV (n' := 35) (ci := 1) h ((c_limit de hp2 t _ a b f _ mo cr lo bu co ht2 ((tz T : Int) + 1) hab (by omega)).d hde) rfl (by first | assumption | exact upH_s | exact (upH_n (by assumption)).trans (by assumption) | exact (upH_n (by assumption)).trans upH_s | exact (upH_n (by assumption)).trans ((upH_n (by assumption)).trans (by assumption))) (lw_V q580 q581 q582 q83 q583) hdX1_limit ⟨by omega, by decide⟩ ⟨by omega, by omega⟩ (Nat.le_of_ble_eq_true rfl) dX1_would_32 rfl (eI fun z32 hp32 p32 => ?_) rfl
        obtain ⟨ez32, fz32⟩ := p32
        have ez32 := ez32.symm
        have fz32 := fz32.symm
        subst ez32 fz32
        refine v_icmp_le (n' := 38) (tgt := 95) h dX1_would_35 rfl rfl (by omega) (by omega) (fun c35 => ?_) (fun c35 => ?_)
        · have hg : (dep (ins T key) key : Int) ≤ (lim a b ((tz T : Int) + 1) : Int) := by rw [hdep]; omega
          refine v_iconst (n' := 96) h dX1_would_95 rfl ?_
          refine v_iret h hq dX1_would_96 (by omega) (by omega) (ret_i ?_)
          exact ⟨by rw [entR_a hg]; rfl, F2⟩
        · have hg : ¬ (dep (ins T key) key : Int) ≤ (lim a b ((tz T : Int) + 1) : Int) := by rw [hdep]; omega
          refine v_aload_n (n' := 39) h dX1_would_38 rfl rfl ?_
          refine v_iload (n' := 41) h dX1_would_39 rfl rfl ?_
          refine vc_callV (n' := 44) (ci := 10) h ((c_get de hp2 (Fsh hp) w _ j (ad y) L2 hgy (by omega)).d hde) rfl (by first | assumption | exact upH_s | exact (upH_n (by assumption)).trans (by assumption) | exact (upH_n (by assumption)).trans upH_s | exact (upH_n (by assumption)).trans ((upH_n (by assumption)).trans (by assumption))) (lw_V q572 q398 q399 q86 q400) hdJ2_get ⟨by omega, by decide⟩ ⟨by omega, by omega⟩ (Nat.le_of_ble_eq_true rfl) dX1_would_41 rfl (eR fun z41 hp41 p41 => ?_) rfl
          obtain ⟨ez41, fz41⟩ := p41
          have ez41 := ez41.symm
          have fz41 := fz41.symm
          subst ez41 fz41
          refine v_castE (n' := 47) h q573 dX1_would_44 rfl (by first | assumption | exact upH_s | exact (upH_n (by assumption)).trans (by assumption) | exact (upH_n (by assumption)).trans upH_s | exact (upH_n (by assumption)).trans ((upH_n (by assumption)).trans (by assumption))) (by omega) ?_
          refine v_astore5 (n' := 49) h dX1_would_47 rfl rfl ?_
          refine v_aload (n' := 51) h dX1_would_49 rfl rfl ?_
          refine vc_callSN (n' := 54) h ((c51).d hde) q590 q82 q588 q589 hdX0_sizeOf ⟨by omega, by decide⟩ ⟨by omega, by omega⟩ (Nat.le_of_ble_eq_true rfl) dX1_would_51 rfl (eI fun z51 hp51 p51 => ?_) rfl
          obtain ⟨ez51, fz51⟩ := p51
          have ez51 := ez51.symm
          have fz51 := fz51.symm
          subst ez51 fz51
          refine v_iconst (n' := 55) h dX1_would_54 rfl ?_
          refine v_iadd (n' := 56) h dX1_would_55 rfl ?_
          refine v_istore6 (n' := 58) h dX1_would_56 rfl rfl ?_
          refine v_aload_n (n' := 59) h dX1_would_58 rfl rfl ?_
          refine v_get (n' := 62) (ci := 1) h rfl in_X1 2 (by decide) q122 rfl dX1_would_59 rfl (by first | assumption | exact upH_s | exact (upH_n (by assumption)).trans (by assumption) | exact (upH_n (by assumption)).trans upH_s | exact (upH_n (by assumption)).trans ((upH_n (by assumption)).trans (by assumption))) (by rfl) ?_
          refine v_iload_n (n' := 63) h dX1_would_62 rfl rfl ?_
          refine v_iload (n' := 65) h dX1_would_63 rfl rfl ?_
          refine v_iconst (n' := 66) h dX1_would_65 rfl ?_
          refine v_isub (n' := 67) h dX1_would_66 rfl ?_
          refine v_iload_n (n' := 68) h dX1_would_67 rfl rfl ?_
          refine v_isub (n' := 69) h dX1_would_68 rfl ?_
          refine v_mmax (n' := 72) h q574 q502 q92 q503 (rm1 (by omega)) (Nat.le_of_ble_eq_true rfl) (rmC (by omega)) (rmS (by omega)) dX1_would_69 rfl (by omega) (by omega) ?_
          rw [emx]
          refine v_imul (n' := 73) h dX1_would_72 rfl ?_
          refine v_aload_n (n' := 74) h dX1_would_73 rfl rfl ?_
          refine v_get (n' := 77) (ci := 1) h rfl in_X1 1 (by decide) q120 rfl dX1_would_74 rfl (by first | assumption | exact upH_s | exact (upH_n (by assumption)).trans (by assumption) | exact (upH_n (by assumption)).trans upH_s | exact (upH_n (by assumption)).trans ((upH_n (by assumption)).trans (by assumption))) (by rfl) ?_
          refine v_iload (n' := 79) h dX1_would_77 rfl rfl ?_
          refine v_imul (n' := 80) h dX1_would_79 rfl ?_
          refine v_icmp_le (n' := 83) (tgt := 86) h dX1_would_80 rfl rfl (by assumption) (by assumption) (fun c80 => ?_) (fun c80 => ?_)
          · refine v_iload (n' := 88) h dX1_would_86 rfl rfl ?_
            refine v_istore3 (n' := 89) h dX1_would_88 rfl rfl ?_
            refine v_iinc4 (n' := 92) h dX1_would_89 rfl rfl ?_
            refine v_goto (tgt := 16) h dX1_would_92 rfl ?_
            rw [show (j : Int) + -1 = (j : Int) - 1 by omega]
            refine V.cast (by rw [show ((tz (sub T y) : Nat) : Int) + 1 = ((tz (sub T y) + 1 : Nat) : Int) by omega]) rfl (ih (tz (sub T y) + 1) y _ _ rfl (by omega) hyi hzw.symm (hsc.trans (scp_cons.2 (fun z => by have := hiff.mpr z; omega))))
          · refine v_iload (n' := 85) h dX1_would_83 rfl rfl ?_
            refine v_iret h hq dX1_would_85 (by omega) (by omega) (ret_i ?_)
            exact ⟨by rw [entR_c hg (hrev.trans (hsc.trans (scp_cons.1 (hiff.mp (by omega))))), hzw]; dsimp only; omega, F2⟩
  refine v_aload_n (n' := 1) h dX1_would_0 rfl rfl ?_
  refine v_iload_n (n' := 2) h dX1_would_1 rfl rfl ?_
  refine vc_callV (n' := 5) (ci := 1) h ((c_wayTo de hp W ad K U T hT (by omega) t a b f _ mo cr lo bu co ht key hk1).d hde) rfl (by first | assumption | exact upH_s | exact (upH_n (by assumption)).trans (by assumption) | exact (upH_n (by assumption)).trans upH_s | exact (upH_n (by assumption)).trans ((upH_n (by assumption)).trans (by assumption))) (lw_V q564 q565 q566 q83 q567) hdX1_wayTo ⟨by omega, by decide⟩ ⟨by omega, by omega⟩ (Nat.le_of_ble_eq_true rfl) dX1_would_2 rfl (eR fun z2 hp2 p2 => ?_) rfl
  obtain ⟨L2, F2⟩ := p2
  obtain ⟨arr, hl2⟩ := L2.len
  rw [hlen] at hl2
  refine v_astore2 (n' := 6) h dX1_would_5 rfl rfl ?_
  refine v_iconst (n' := 7) h dX1_would_6 rfl ?_
  refine v_istore3 (n' := 8) h dX1_would_7 rfl rfl ?_
  refine v_aload_n (n' := 9) h dX1_would_8 rfl rfl ?_
  refine vc_callV (n' := 12) (ci := 10) h ((c_size de hp2 z2 _ _ arr hl2).d hde) rfl (by first | assumption | exact upH_s | exact (upH_n (by assumption)).trans (by assumption) | exact (upH_n (by assumption)).trans upH_s | exact (upH_n (by assumption)).trans ((upH_n (by assumption)).trans (by assumption))) (lw_V q571 q394 q395 q86 q396) hdJ2_size ⟨by omega, by decide⟩ ⟨by omega, by omega⟩ (Nat.le_of_ble_eq_true rfl) dX1_would_9 rfl (eI fun z9 hp9 p9 => ?_) rfl
  obtain ⟨ez9, fz9⟩ := p9
  have ez9 := ez9.symm
  have fz9 := fz9.symm
  subst ez9 fz9
  refine v_iconst (n' := 13) h dX1_would_12 rfl ?_
  refine v_isub (n' := 14) h dX1_would_13 rfl ?_
  refine v_istore4 (n' := 16) h dX1_would_14 rfl rfl ?_
  exact loop z2 hp2 F2 L2 (way T key).length 1 key none none rfl (Nat.le_refl _) (by rw [hwi, List.getElem?_append_right (Nat.le_refl _)]; simp) (by rw [sub_ins hk]; rfl) (by rw [List.take_length])
