/-! TREES of entries: put -/
set_option maxRecDepth 100000
theorem mx_c (a b : Int) : mx a b = mx b a := by unfold mx; split <;> split <;> omega
theorem way_nil {T : Tr} {k : Nat} : way T k = [] ↔ T = .leaf () := by
  cases T with
  | leaf u => simp [way]
  | branch x l r =>
    rw [way_br]
    constructor
    · intro h; split at h <;> (try split at h) <;> cases h
    · intro h; cases h
theorem HT_ins {hp hp' : AH} {W : Nat → Prop} {ad : Nat → Nat} {K U : Nat → Int} {k : Nat} (hk : hp' (ad k) = some (eO (K k).toNat k (U k) none none) ∧ W (ad k) ∧ k < 100 ∧ (0 ≤ K k ∧ K k ≤ 4)) : ∀ {T : Tr} (p : Nat), HT hp W ad K U T → Srt T → k ∉ tl T → (way T k).getLast? = some p →
    (∀ x ∈ tl T, x ≠ p → hp' (ad x) = hp (ad x)) → (∃ l r, hp (ad p) = some (eO (K p).toNat p (U p) l r) ∧ hp' (ad p) = some (if k < p then eO (K p).toNat p (U p) (some (ad k)) r else eO (K p).toNat p (U p) l (some (ad k)))) → HT hp' W ad K U (ins T k) := by
  intro T
  induction T with
  | leaf u => intro p h hs hn hw; simp [way] at hw
  | branch x l r ihl ihr =>
    intro p h hs hn hw h1 h2
    obtain ⟨g1, g2, g3, g4⟩ := srt_br.mp hs
    obtain ⟨⟨he, hW, hx, hK⟩, hl, hr⟩ := HT.br.mp h
    have c : ¬ k = x := fun e => hn (mem_br.mpr (Or.inr (Or.inl e)))
    have hnl : k ∉ tl l := fun z => hn (mem_br.mpr (Or.inl z))
    have hnr : k ∉ tl r := fun z => hn (mem_br.mpr (Or.inr (Or.inr z)))
    rw [way_br, if_neg c] at hw
    rw [ins_br]
    by_cases c2 : k < x
    · rw [if_pos c2] at hw ⊢
      by_cases cl : l = .leaf ()
      · subst cl
        have hw : some x = some p := hw
        cases hw
        obtain ⟨l1, r1, e1, e2⟩ := h2
        rw [he] at e1
        have e1 := congrArg Prod.snd (Sum.inr.inj (Option.some.inj e1))
        simp only [List.cons.injEq, and_true, true_and] at e1
        rw [if_pos c2] at e2
        refine HT.br.mpr ⟨⟨?_, hW, hx, hK⟩, HT.br.mpr ⟨hk, trivial, trivial⟩, hr.frm (fun y hy => h1 y (mem_br.mpr (Or.inr (Or.inr hy))) (fun z => by have := g4 y hy; omega))⟩
        rw [e2]
        show some (Sum.inr _) = some (Sum.inr _)
        rw [← e1.2]
        rfl
      · have hw : (way l k).getLast? = some p := by
          rw [List.getLast?_cons] at hw
          cases hq : (way l k).getLast? with
          | none => rw [List.getLast?_eq_none_iff] at hq; exact absurd (way_nil.mp hq) cl
          | some q => rw [hq] at hw; exact hw
        have hp1 : p ∈ tl l := way_mem (List.mem_of_getLast? hw)
        refine HT.br.mpr ⟨⟨?_, hW, hx, hK⟩, ihl p hl g1 hnl hw (fun y hy => h1 y (mem_br.mpr (Or.inl hy))) h2, hr.frm (fun y hy => h1 y (mem_br.mpr (Or.inr (Or.inr hy))) (fun z => by have := g4 y hy; have := g3 p hp1; omega))⟩
        rw [h1 x (mem_br.mpr (Or.inr (Or.inl rfl))) (fun z => by have := g3 p hp1; omega), ins_ro cl]
        exact he
    · rw [if_neg c2] at hw ⊢
      by_cases cl : r = .leaf ()
      · subst cl
        have hw : some x = some p := hw
        cases hw
        obtain ⟨l1, r1, e1, e2⟩ := h2
        rw [he] at e1
        have e1 := congrArg Prod.snd (Sum.inr.inj (Option.some.inj e1))
        simp only [List.cons.injEq, and_true, true_and] at e1
        rw [if_neg c2] at e2
        refine HT.br.mpr ⟨⟨?_, hW, hx, hK⟩, hl.frm (fun y hy => h1 y (mem_br.mpr (Or.inl hy)) (fun z => by have := g3 y hy; omega)), HT.br.mpr ⟨hk, trivial, trivial⟩⟩
        rw [e2]
        show some (Sum.inr _) = some (Sum.inr _)
        rw [← e1.1]
        rfl
      · have hw : (way r k).getLast? = some p := by
          rw [List.getLast?_cons] at hw
          cases hq : (way r k).getLast? with
          | none => rw [List.getLast?_eq_none_iff] at hq; exact absurd (way_nil.mp hq) cl
          | some q => rw [hq] at hw; exact hw
        have hp1 : p ∈ tl r := way_mem (List.mem_of_getLast? hw)
        refine HT.br.mpr ⟨⟨?_, hW, hx, hK⟩, hl.frm (fun y hy => h1 y (mem_br.mpr (Or.inl hy)) (fun z => by have := g3 y hy; have := g4 p hp1; omega)), ihr p hr g2 hnr hw (fun y hy => h1 y (mem_br.mpr (Or.inr (Or.inr hy)))) h2⟩
        rw [h1 x (mem_br.mpr (Or.inr (Or.inl rfl))) (fun z => by have := g4 p hp1; omega), ins_ro cl]
        exact he
theorem feeR {f d : Int} (hf : 0 ≤ f ∧ f ≤ 9) (hd : 0 ≤ d ∧ d ≤ 50) : 0 ≤ f * d ∧ f * d ≤ 450 := by
  have h1 := Int.mul_le_mul_of_nonneg_left hd.2 hf.1
  have h2 := Int.mul_nonneg hf.1 hd.1
  omega
theorem sub_ins {T : Tr} {k : Nat} (h : k ∉ tl T) : sub (ins T k) k = .branch k (.leaf ()) (.leaf ()) := by
  induction T with
  | leaf u => show sub (.branch k _ _) k = _; rw [sub_br, if_pos rfl]
  | branch x l r ihl ihr =>
    have c : ¬ k = x := fun e => h (mem_br.mpr (Or.inr (Or.inl e)))
    rw [ins_br]
    by_cases c2 : k < x
    · rw [if_pos c2, sub_br, if_neg c, if_pos c2]
      exact ihl (fun z => h (mem_br.mpr (Or.inl z)))
    · rw [if_neg c2, sub_br, if_neg c, if_neg c2]
      exact ihr (fun z => h (mem_br.mpr (Or.inr (Or.inr z))))
/-- the loop of a put: from the limit on -/
theorem put_loop {de : Nat} {W : Nat → Prop} {t x w : Nat} {ad : Nat → Nat} {K U : Nat → Int} {a b f : Int} {te : Tre} {key : Nat} {Γ : GX} {z0 : Int → AH → Prop} (h : Ok0 cX1_put yX1_put.cls (some .int) (rmK 62 12 264) Γ) (hq : Rt (rI z0) 12 264 Γ) (hde : (gD Γ).2.2.1 = de)
    (hab : isRat a b) (hn : key ∉ tl te.1) (hs : Srt te.1) (hz : tz te.1 ≤ 40) (mo bu co cr lo : Int) (hB : TeB (ins te.1 key, mo, bu, co, cr, lo) 1000000) (hp4 : AH) (hR : Nat → Prop) (hT : TT hp4 W t ad K U a b f (ins te.1 key, mo, bu, co, cr, lo)) (hL : Ls hp4 hR de w ((way te.1 key).map ad)) (hF : Fre W hp4)
    (hnone : ∀ hp', hp' = hp4 → scp a b (ins te.1 key) (way te.1 key).reverse = none → z0 0 hp')
    (hsome : ∀ y hp', scp a b (ins te.1 key) (way te.1 key).reverse = some y → TT hp' W t ad K U a b f (gr (ins te.1 key) y (flat (sub (ins te.1 key) y)), mo, bu + 1, co + (tz (sub (ins te.1 key) y) : Int), payN (cr, lo) (0 - (tz (sub (ins te.1 key) y) : Int))) → Frm W hp4 hp' → z0 (tz (sub (ins te.1 key) y) : Int) hp') :
    ∀ j : Nat, j ≤ (way te.1 key).length → scp a b (ins te.1 key) (way te.1 key).reverse = scp a b (ins te.1 key) ((way te.1 key).take j).reverse → V Γ 6 132 hp4 133 [some (.ref t), some (.ref x), some (.ref w), some (.int (iI ((way te.1 key).length : Int))), some (.int (iI ((j : Int) - 1)))] [] := by
  obtain ⟨ht, hWt, hT⟩ := hT
  dsimp only at hT
  have hsT := ins_srt hs hn
  have hzT : tz (ins te.1 key) ≤ 41 := by rw [ins_tz]; omega
  have hwl := way_len (T := te.1) (k := key)
  have hlen : ((way te.1 key).map ad).length = (way te.1 key).length := List.length_map ..
  obtain ⟨arr, hlw⟩ := hL.len
  intro j
  induction j with
  | zero =>
    intro hj hsc
    refine v_iload (n' := 135) h dX1_put_133 rfl rfl ?_
    refine v_if_lt (n' := 138) (tgt := 194) h dX1_put_135 rfl rfl (by omega) (fun c135 => ?_) (fun c135 => ?_)
    · refine v_iconst (n' := 195) h dX1_put_194 rfl ?_
      refine v_iret h hq dX1_put_195 (by omega) (by omega) (ret_i ?_)
      exact hnone _ rfl (by rw [hsc]; rfl)
    · omega
  | succ j ih =>
    intro hj hsc
    obtain ⟨y, hy⟩ : ∃ y, (way te.1 key)[j]? = some y := ⟨_, List.getElem?_eq_getElem (by omega)⟩
    have hgy : ((way te.1 key).map ad)[j]? = some (ad y) := by rw [List.getElem?_map, hy]; rfl
    have hyT : y ∈ tl (ins te.1 key) := ins_mem.mpr (Or.inr (way_mem (List.mem_of_getElem? hy)))
    obtain ⟨sl, sr, hsub⟩ := sub_root hsT hyT
    have hSy := hT.sub y
    have hzs : tz (sub (ins te.1 key) y) ≤ 41 := Nat.le_trans sub_len hzT
    rw [hsub] at hSy hzs
    obtain ⟨⟨hcy, -, -, hKy⟩, -, -⟩ := HT.br.mp hSy
    have htk : (way te.1 key).take (j + 1) = (way te.1 key).take j ++ [y] := by rw [List.take_add_one, hy]; rfl
    rw [htk, List.reverse_append] at hsc
    have hsc : scp a b (ins te.1 key) (way te.1 key).reverse = scp a b (ins te.1 key) (y :: ((way te.1 key).take j).reverse) := hsc
    have hpa : pa (ins te.1 key) y none = if j = 0 then none else (way te.1 key)[j - 1]? := by
      have q := pa_way (k := key) hsT j y none (by rw [ins_way hn, List.getElem?_append_left (by omega)]; exact hy)
      rw [q]
      by_cases c : j = 0
      · rw [if_pos c, if_pos c]
      · rw [if_neg c, if_neg c, ins_way hn, List.getElem?_append_left (by omega)]
    have e1 : ((j + 1 : Nat) : Int) - 1 = (j : Int) := by omega
    rw [e1]
    refine v_iload (n' := 135) h dX1_put_133 rfl rfl ?_
    refine v_if_lt (n' := 138) (tgt := 194) h dX1_put_135 rfl rfl (by omega) (fun c135 => ?_) (fun c135 => ?_)
    · omega
    · refine v_aload_n (n' := 139) h dX1_put_138 rfl rfl ?_
      refine v_aload_n (n' := 140) h dX1_put_139 rfl rfl ?_
      refine v_iload (n' := 142) h dX1_put_140 rfl rfl ?_
      refine vc_callV (n' := 145) (ci := 10) h ((c_get de hp4 hR w _ j (ad y) hL hgy (by omega)).d hde) rfl (by first | assumption | exact upH_s | exact (upH_n (by assumption)).trans (by assumption) | exact (upH_n (by assumption)).trans upH_s | exact (upH_n (by assumption)).trans ((upH_n (by assumption)).trans (by assumption))) (lw_V q572 q398 q399 q86 q400) hdJ2_get ⟨by omega, by decide⟩ ⟨by omega, by omega⟩ (Nat.le_of_ble_eq_true rfl) dX1_put_142 rfl (eR fun z142 hp142 p142 => ?_) rfl
      obtain ⟨ez142, fz142⟩ := p142
      have ez142 := ez142.symm
      have fz142 := fz142.symm
      subst ez142 fz142
      refine v_castE (n' := 148) h q573 dX1_put_145 rfl (by first | assumption | exact upH_s | exact (upH_n (by assumption)).trans (by assumption) | exact (upH_n (by assumption)).trans upH_s | exact (upH_n (by assumption)).trans ((upH_n (by assumption)).trans (by assumption))) (by omega) ?_
      refine vc_callV (n' := 151) (ci := 1) h ((c_tooMuch de hp4 W ad K U y sl sr hSy (by omega) t _ a b f _ mo cr lo bu co ht hab).d hde) rfl (by first | assumption | exact upH_s | exact (upH_n (by assumption)).trans (by assumption) | exact (upH_n (by assumption)).trans upH_s | exact (upH_n (by assumption)).trans ((upH_n (by assumption)).trans (by assumption))) (lw_V q584 q586 qs14 q83 q587) hdX1_isTooMuch ⟨by omega, by decide⟩ ⟨by omega, by omega⟩ (Nat.le_of_ble_eq_true rfl) dX1_put_148 rfl (eI fun z148 hp148 p148 => ?_) rfl
      obtain ⟨ez148, fz148⟩ := p148
      have ez148 := ez148.symm
      have fz148 := fz148.symm
      subst ez148 fz148
      refine v_bif_eq (n' := 154) (tgt := 188) h dX1_put_151 rfl rfl (fun c151 => ?_) (fun c151 => ?_)
      · have hno : ¬ lop a b (sub (ins te.1 key) y) := by rw [hsub]; exact c151
        refine v_iinc4 (n' := 191) h dX1_put_188 rfl rfl ?_
        refine v_goto (tgt := 133) h dX1_put_191 rfl ?_
        rw [show (j : Int) + -1 = (j : Int) - 1 by omega]
        exact ih (by omega) (by rw [hsc, scp_cons.2 hno])
      · have hyes : lop a b (sub (ins te.1 key) y) := by rw [hsub]; exact c151
        rw [scp_cons.1 hyes] at hsc
        refine v_aload_n (n' := 155) h dX1_put_154 rfl rfl ?_
        refine v_iload (n' := 157) h dX1_put_155 rfl rfl ?_
        refine v_if_ne (n' := 160) (tgt := 164) h dX1_put_157 rfl rfl (by omega) (fun c157 => ?_) (fun c157 => ?_)
        · obtain ⟨p, hp1⟩ : ∃ p, (way te.1 key)[j - 1]? = some p := ⟨_, List.getElem?_eq_getElem (by omega)⟩
          have hgp : ((way te.1 key).map ad)[j - 1]? = some (ad p) := by rw [List.getElem?_map, hp1]; rfl
          obtain ⟨lp, rp, hcp, -, -, hKp⟩ := hT.at (ins_mem.mpr (Or.inr (way_mem (List.mem_of_getElem? hp1))))
          have ej : (j : Int) - 1 = ((j - 1 : Nat) : Int) := by omega
          rw [if_neg (by omega), hp1] at hpa
          have c184 := c_build de hp4 W t ad K U a b f _ ⟨ht, hWt, hT⟩ hF hsT (Nat.le_trans hzT (by decide)) hB y hyT
          dsimp only at c184
          rw [hpa] at c184
          refine v_aload_n (n' := 165) h dX1_put_164 rfl rfl ?_
          refine v_iload (n' := 167) h dX1_put_165 rfl rfl ?_
          refine v_iconst (n' := 168) h dX1_put_167 rfl ?_
          refine v_isub (n' := 169) h dX1_put_168 rfl ?_
          rw [ej]
          refine vc_callV (n' := 172) (ci := 10) h ((c_get de hp4 hR w _ (j - 1) (ad p) hL hgp (by omega)).d hde) rfl (by first | assumption | exact upH_s | exact (upH_n (by assumption)).trans (by assumption) | exact (upH_n (by assumption)).trans upH_s | exact (upH_n (by assumption)).trans ((upH_n (by assumption)).trans (by assumption))) (lw_V q572 q398 q399 q86 q400) hdJ2_get ⟨by omega, by decide⟩ ⟨by omega, by omega⟩ (Nat.le_of_ble_eq_true rfl) dX1_put_169 rfl (eR fun z169 hp169 p169 => ?_) rfl
          obtain ⟨ez169, fz169⟩ := p169
          have ez169 := ez169.symm
          have fz169 := fz169.symm
          subst ez169 fz169
          refine v_castE (n' := 175) h q573 dX1_put_172 rfl (by first | assumption | exact upH_s | exact (upH_n (by assumption)).trans (by assumption) | exact (upH_n (by assumption)).trans upH_s | exact (upH_n (by assumption)).trans ((upH_n (by assumption)).trans (by assumption))) (by omega) ?_
          refine v_aload_n (n' := 176) h dX1_put_175 rfl rfl ?_
          refine v_iload (n' := 178) h dX1_put_176 rfl rfl ?_
          refine vc_callV (n' := 181) (ci := 10) h ((c_get de hp4 hR w _ j (ad y) hL hgy (by omega)).d hde) rfl (by first | assumption | exact upH_s | exact (upH_n (by assumption)).trans (by assumption) | exact (upH_n (by assumption)).trans upH_s | exact (upH_n (by assumption)).trans ((upH_n (by assumption)).trans (by assumption))) (lw_V q572 q398 q399 q86 q400) hdJ2_get ⟨by omega, by decide⟩ ⟨by omega, by omega⟩ (Nat.le_of_ble_eq_true rfl) dX1_put_178 rfl (eR fun z178 hp178 p178 => ?_) rfl
          obtain ⟨ez178, fz178⟩ := p178
          have ez178 := ez178.symm
          have fz178 := fz178.symm
          subst ez178 fz178
          refine v_castE (n' := 184) h q573 dX1_put_181 rfl (by first | assumption | exact upH_s | exact (upH_n (by assumption)).trans (by assumption) | exact (upH_n (by assumption)).trans upH_s | exact (upH_n (by assumption)).trans ((upH_n (by assumption)).trans (by assumption))) (by omega) ?_
          refine vc_callV (n' := 187) (ci := 1) h ((c184).d hde) rfl (by first | assumption | exact upH_s | exact (upH_n (by assumption)).trans (by assumption) | exact (upH_n (by assumption)).trans upH_s | exact (upH_n (by assumption)).trans ((upH_n (by assumption)).trans (by assumption))) (lw_V q592 q593 q594 q83 q595) hdX1_build ⟨by omega, by decide⟩ ⟨by omega, by omega⟩ (Nat.le_of_ble_eq_true rfl) dX1_put_184 rfl (eI fun z184 hp184 p184 => ?_) rfl
          obtain ⟨ez184, T184, F184⟩ := p184
          subst ez184
          refine v_iret h hq dX1_put_187 (by omega) (by omega) (ret_i ?_)
          exact hsome y _ hsc T184 F184
        · rw [if_pos (by omega)] at hpa
          have c184 := c_build de hp4 W t ad K U a b f _ ⟨ht, hWt, hT⟩ hF hsT (Nat.le_trans hzT (by decide)) hB y hyT
          dsimp only at c184
          rw [hpa] at c184
          refine v_null (n' := 161) h dX1_put_160 rfl ?_
          refine v_goto (tgt := 175) h dX1_put_161 rfl ?_
          refine v_aload_n (n' := 176) h dX1_put_175 rfl rfl ?_
          refine v_iload (n' := 178) h dX1_put_176 rfl rfl ?_
          refine vc_callV (n' := 181) (ci := 10) h ((c_get de hp4 hR w _ j (ad y) hL hgy (by omega)).d hde) rfl (by first | assumption | exact upH_s | exact (upH_n (by assumption)).trans (by assumption) | exact (upH_n (by assumption)).trans upH_s | exact (upH_n (by assumption)).trans ((upH_n (by assumption)).trans (by assumption))) (lw_V q572 q398 q399 q86 q400) hdJ2_get ⟨by omega, by decide⟩ ⟨by omega, by omega⟩ (Nat.le_of_ble_eq_true rfl) dX1_put_178 rfl (eR fun z178 hp178 p178 => ?_) rfl
          obtain ⟨ez178, fz178⟩ := p178
          have ez178 := ez178.symm
          have fz178 := fz178.symm
          subst ez178 fz178
          refine v_castE (n' := 184) h q573 dX1_put_181 rfl (by first | assumption | exact upH_s | exact (upH_n (by assumption)).trans (by assumption) | exact (upH_n (by assumption)).trans upH_s | exact (upH_n (by assumption)).trans ((upH_n (by assumption)).trans (by assumption))) (by omega) ?_
          refine vc_callV (n' := 187) (ci := 1) h ((c184).d hde) rfl (by first | assumption | exact upH_s | exact (upH_n (by assumption)).trans (by assumption) | exact (upH_n (by assumption)).trans upH_s | exact (upH_n (by assumption)).trans ((upH_n (by assumption)).trans (by assumption))) (lw_V q592 q593 q594 q83 q595) hdX1_build ⟨by omega, by decide⟩ ⟨by omega, by omega⟩ (Nat.le_of_ble_eq_true rfl) dX1_put_184 rfl (eI fun z184 hp184 p184 => ?_) rfl
          obtain ⟨ez184, T184, F184⟩ := p184
          subst ez184
          refine v_iret h hq dX1_put_187 (by omega) (by omega) (ret_i ?_)
          exact hsome y _ hsc T184 F184
theorem teEnter_0 {a b f : Int} {T : Tr} {mo bu co cr lo : Int} {k : Nat} (hk : k ∉ tl T) (h : entR a b T k = (ins T k, 0)) : teEnter a b f (T, mo, bu, co, cr, lo) k = (ins T k, mx mo ((tz T : Int) + 1), bu, co, payN (cr, lo) (f * (((way T k).length : Int) + 1))) := by
  have hdep : dep (ins T k) k = (way T k).length := by unfold dep; rw [ins_way hk]; simp
  unfold teEnter entM
  dsimp only
  rw [h]
  dsimp only
  rw [if_pos rfl, mx_c, hdep]
  unfold bn
  rw [if_pos rfl]
  simp
theorem teEnter_1 {a b f : Int} {T G : Tr} {n : Nat} {mo bu co cr lo : Int} {k : Nat} (hk : k ∉ tl T) (h : entR a b T k = (G, n)) (hn : n ≠ 0) : teEnter a b f (T, mo, bu, co, cr, lo) k = (G, mx mo ((tz T : Int) + 1), bu + 1, co + (n : Int), payN (payN (cr, lo) (f * (((way T k).length : Int) + 1))) (0 - (n : Int))) := by
  have hdep : dep (ins T k) k = (way T k).length := by unfold dep; rw [ins_way hk]; simp
  unfold teEnter entM
  dsimp only
  rw [h]
  dsimp only
  rw [if_neg hn, mx_c, hdep]
  unfold bn
  rw [if_neg hn]
theorem c_put (de : Nat) (hp : AH) (W : Nat → Prop) (t : Nat) (ad : Nat → Nat) (K U : Nat → Int) (a b f : Int) (te : Tre) (hTT : TT hp W t ad K U a b f te) (hf : Fre W hp) (hs : Srt te.1) (hz : tz te.1 < 40) (hB : TeB te 500000) (hab : isRat a b) (hfee : 0 ≤ f ∧ f ≤ 9) (key kd x : Nat) (v : Int) (hk : key ∉ tl te.1) (hk1 : key < 100) (hkd : kd < 5) (hx : hp x = some (eO kd key v none none)) (hWx : W x) :
    CtE de yX1_put cX1_put 5 (some .int) (rmK 62 12 264) [.ref t, .ref x] hp (rI (fun z hp' => z = ((entR a b te.1 key).2 : Int) ∧ TT hp' W t (fun y => if y = key then x else ad y) (fun y => if y = key then (kd : Int) else K y) (fun y => if y = key then v else U y) a b f (teEnter a b f te key) ∧ Frm W hp hp')) := by
  obtain ⟨ht, hWt, hT⟩ := hTT
  obtain ⟨T, mo, bu, co, cr, lo⟩ := te
  dsimp only at ht hT hs hz hk ⊢
  obtain ⟨b1, b2, b3, b4, b5⟩ := hB
  dsimp only at b1 b2 b3 b4 b5
  have hne : ∀ y ∈ tl T, y ≠ key := fun y hy e => hk (by rw [← e]; exact hy)
  have hT' : HT hp W (fun y => if y = key then x else ad y) (fun y => if y = key then (kd : Int) else K y) (fun y => if y = key then v else U y) T := hT.cg (fun y hy => ⟨if_neg (hne y hy), if_neg (hne y hy), if_neg (hne y hy), rfl, id⟩)
  have hro : (ro T).map ad = (ro T).map (fun y => if y = key then x else ad y) := (ro_map (fun y hy => if_neg (hne y hy))).symm
  have hwe : (way T key).map ad = (way T key).map (fun y => if y = key then x else ad y) := List.map_congr_left (fun y hy => (if_neg (hne y (way_mem hy))).symm)
  have hkx : (fun y => if y = key then x else ad y) key = x := if_pos rfl
  have hkK : (fun y => if y = key then (kd : Int) else K y) key = (kd : Int) := if_pos rfl
  have hkU : (fun y => if y = key then v else U y) key = v := if_pos rfl
  have ht : hp t = some (tO ((ro T).map ad) a b f (tz T : Int) mo cr lo bu co) := ht
  rw [hro] at ht
  have cw := c_wayTo de hp W ad K U T hT (by omega) t a b f _ mo cr lo bu co (by rw [hro]; exact ht) key hk1
  rw [hwe] at cw
  generalize hA : (fun y => if y = key then x else ad y) = ad' at *
  generalize hKK : (fun y => if y = key then (kd : Int) else K y) = K' at *
  generalize hUU : (fun y => if y = key then v else U y) = U' at *
  have hwl := way_len (T := T) (k := key)
  have hlen : ((way T key).map ad').length = (way T key).length := List.length_map ..
  have hdep : dep (ins T key) key = (way T key).length := by unfold dep; rw [ins_way hk]; simp
  have hfr := feeR (f := f) (d := ((way T key).length : Int) + 1) hfee (by omega)
  have hmx : mx mo ((tz T : Int) + 1) ≤ 40 ∧ 0 ≤ mx mo ((tz T : Int) + 1) := by unfold mx; split <;> omega
  have hlim : lim a b ((tz T : Int) + 1) ≤ 17 := limF_le 17 0 a b _
  have hzi : ((tz (ins T key) : Nat) : Int) = (tz T : Int) + 1 := by rw [ins_tz]; omega
  refine CtE.of (by decide) (EL.c1 rfl (EL.c1 rfl (EL.nn (EL.nn (EL.nn EL.n0))))) (fun Γ h hq hnm hde => ?_)
  have tail : ∀ (w : Nat) (hp2 : AH), hp2 t = some (tO ((ro (ins T key)).map ad') a b f (tz T : Int) mo cr lo bu co) → HT hp2 W ad' K' U' (ins T key) → Ls hp2 (Fsh hp) de w ((way T key).map ad') → Frm W hp hp2 → V Γ 6 132 hp2 77 [some (.ref t), some (.ref x), some (.ref w), some (.int (iI ((way T key).length : Int))), none] [] := by
    intro w hp2 e1 e2 e3 e4
    have entt : ∀ q c, hp2 q = some c → q ≠ t ∨ q = t := fun q c _ => (Classical.em (q = t)).symm
    refine v_aload_n (n' := 78) h dX1_put_77 rfl rfl ?_
    refine v_dup (n' := 79) h dX1_put_78 rfl rfl ?_
    refine v_get (n' := 82) (ci := 1) h rfl in_X1 4 (by decide) q126 rfl dX1_put_79 rfl (by first | assumption | exact upH_s | exact (upH_n (by assumption)).trans (by assumption) | exact (upH_n (by assumption)).trans upH_s | exact (upH_n (by assumption)).trans ((upH_n (by assumption)).trans (by assumption))) (by rfl) ?_
    refine v_iconst (n' := 83) h dX1_put_82 rfl ?_
    refine v_iadd (n' := 84) h dX1_put_83 rfl ?_
    refine v_put (n' := 87) (ci := 1) h rfl in_X1 tyX1 tyX1_ok nmX1 4 (by decide) q126 rfl rfl dX1_put_84 rfl (by first | assumption | exact upH_s | exact (upH_n (by assumption)).trans (by assumption) | exact (upH_n (by assumption)).trans upH_s | exact (upH_n (by assumption)).trans ((upH_n (by assumption)).trans (by assumption))) (by show 4 < 10; decide) rfl rfl ?_
    refine v_aload_n (n' := 88) h dX1_put_87 rfl rfl ?_
    refine v_aload_n (n' := 89) h dX1_put_88 rfl rfl ?_
    refine v_get (n' := 92) (ci := 1) h rfl in_X1 5 (by decide) q128 rfl dX1_put_89 rfl (by first | assumption | exact upH_s | exact (upH_n (by assumption)).trans (by assumption) | exact (upH_n (by assumption)).trans upH_s | exact (upH_n (by assumption)).trans ((upH_n (by assumption)).trans (by assumption))) (by rfl) ?_
    refine v_aload_n (n' := 93) h dX1_put_92 rfl rfl ?_
    refine v_get (n' := 96) (ci := 1) h rfl in_X1 4 (by decide) q126 rfl dX1_put_93 rfl (by first | assumption | exact upH_s | exact (upH_n (by assumption)).trans (by assumption) | exact (upH_n (by assumption)).trans upH_s | exact (upH_n (by assumption)).trans ((upH_n (by assumption)).trans (by assumption))) (by rfl) ?_
    refine v_mmax (n' := 99) h q574 q502 q92 q503 (rm1 (by omega)) (Nat.le_of_ble_eq_true rfl) (rmC (by omega)) (rmS (by omega)) dX1_put_96 rfl (by omega) (by omega) ?_
    refine v_put (n' := 102) (ci := 1) h rfl in_X1 tyX1 tyX1_ok nmX1 5 (by decide) q128 rfl rfl dX1_put_99 rfl (by first | assumption | exact upH_s | exact (upH_n (by assumption)).trans (by assumption) | exact (upH_n (by assumption)).trans upH_s | exact (upH_n (by assumption)).trans ((upH_n (by assumption)).trans (by assumption))) (by show 5 < 10; decide) rfl rfl ?_
    refine v_aload_n (n' := 103) h dX1_put_102 rfl rfl ?_
    refine v_aload_n (n' := 104) h dX1_put_103 rfl rfl ?_
    refine v_get (n' := 107) (ci := 1) h rfl in_X1 3 (by decide) q124 rfl dX1_put_104 rfl (by first | assumption | exact upH_s | exact (upH_n (by assumption)).trans (by assumption) | exact (upH_n (by assumption)).trans upH_s | exact (upH_n (by assumption)).trans ((upH_n (by assumption)).trans (by assumption))) (by rfl) ?_
    refine v_iload_n (n' := 108) h dX1_put_107 rfl rfl ?_
    refine v_iconst (n' := 109) h dX1_put_108 rfl ?_
    refine v_iadd (n' := 110) h dX1_put_109 rfl ?_
    refine v_imul (n' := 111) h dX1_put_110 rfl ?_
    refine vc_callV (n' := 114) (ci := 1) h ((c_pay de _ t _ a b f ((tz T : Int) + 1) (mx mo ((tz T : Int) + 1)) cr lo bu co upH_s (f * (((way T key).length : Int) + 1)) (by omega) (by omega) (by omega)).d hde) rfl (by first | assumption | exact upH_s | exact (upH_n (by assumption)).trans (by assumption) | exact (upH_n (by assumption)).trans upH_s | exact (upH_n (by assumption)).trans ((upH_n (by assumption)).trans (by assumption))) (lw_V q575 q577 qs13 q83 q578) hdX1_pay ⟨by omega, by decide⟩ ⟨by omega, by omega⟩ (Nat.le_of_ble_eq_true rfl) dX1_put_111 rfl (eV fun hp111 p111 => ?_) rfl
    subst p111
    rw [upH_up, upH_up]
    have hp4e : ∃ hp4 : AH, hp4 = upH hp2 t (tO ((ro (ins T key)).map ad') a b f ((tz T : Int) + 1) (mx mo ((tz T : Int) + 1)) (payN (cr, lo) (f * (((way T key).length : Int) + 1))).1 (payN (cr, lo) (f * (((way T key).length : Int) + 1))).2 bu co) := ⟨_, rfl⟩
    obtain ⟨hp4, hp4e⟩ := hp4e
    rw [← hp4e]
    have h4t : hp4 t = some (tO ((ro (ins T key)).map ad') a b f ((tz T : Int) + 1) (mx mo ((tz T : Int) + 1)) (payN (cr, lo) (f * (((way T key).length : Int) + 1))).1 (payN (cr, lo) (f * (((way T key).length : Int) + 1))).2 bu co) := by rw [hp4e]; exact upH_s
    have h4T : HT hp4 W ad' K' U' (ins T key) := e2.frm (fun y hy => by
      obtain ⟨l1, r1, q1, -, -, q4⟩ := e2.at hy
      rw [hp4e]
      exact upH_n (cell_ne q1 e1 (fun z => by have := congrArg Prod.fst (Sum.inr.inj z); simp at this; omega)))
    have h4L : Ls hp4 (Fsh hp) de w ((way T key).map ad') := by
      obtain ⟨arr, l1, l2, l3⟩ := e3
      have n1 : w ≠ t := cell_ne l1 e1 (fun z => by have := congrArg Prod.fst (Sum.inr.inj z); simp at this)
      refine ⟨arr, by rw [hp4e]; exact (upH_n n1).trans l1, l2, l3.imp id (fun q => ⟨q.1, q.2.1, ?_⟩)⟩
      rw [hp4e]
      exact (upH_n (cell_ne q.2.2 e1 (fun z => by cases z))).trans q.2.2
    have h4F : Frm W hp hp4 := by rw [hp4e]; exact e4.tr (Frm.up hWt)
    have hpr : -1000000 ≤ (payN (cr, lo) (f * (((way T key).length : Int) + 1))).1 ∧ (payN (cr, lo) (f * (((way T key).length : Int) + 1))).1 ≤ 1000000 ∧ -1000000 ≤ (payN (cr, lo) (f * (((way T key).length : Int) + 1))).2 ∧ (payN (cr, lo) (f * (((way T key).length : Int) + 1))).2 ≤ 1000000 := by unfold payN mn; dsimp only; split <;> omega
    have hTT4 : TT hp4 W t ad' K' U' a b f (ins T key, mx mo ((tz T : Int) + 1), bu, co, payN (cr, lo) (f * (((way T key).length : Int) + 1))) := ⟨by rw [h4t]; show _ = some (tO _ a b f ((tz (ins T key) : Nat) : Int) _ _ _ bu co); rw [hzi], hWt, h4T⟩
    have hB4 : TeB (ins T key, mx mo ((tz T : Int) + 1), bu, co, payN (cr, lo) (f * (((way T key).length : Int) + 1))) 1000000 := by
      refine ⟨⟨hmx.2, hmx.1⟩, ?_, ?_, ⟨hpr.1, hpr.2.1⟩, hpr.2.2⟩ <;> dsimp only <;> omega
    refine v_iload_n (n' := 115) h dX1_put_114 rfl rfl ?_
    refine v_aload_n (n' := 116) h dX1_put_115 rfl rfl ?_
    refine v_aload_n (n' := 117) h dX1_put_116 rfl rfl ?_
    refine v_get (n' := 120) (ci := 1) h rfl in_X1 4 (by decide) q126 rfl dX1_put_117 rfl (by first | assumption | exact upH_s | exact (upH_n (by assumption)).trans (by assumption) | exact (upH_n (by assumption)).trans upH_s | exact (upH_n (by assumption)).trans ((upH_n (by assumption)).trans (by assumption))) (by rfl) ?_
    refine vc_callV (n' := 123) (ci := 1) h ((c_limit de hp4 t _ a b f _ _ _ _ bu co h4t ((tz T : Int) + 1) hab (by omega)).d hde) rfl (by first | assumption | exact upH_s | exact (upH_n (by assumption)).trans (by assumption) | exact (upH_n (by assumption)).trans upH_s | exact (upH_n (by assumption)).trans ((upH_n (by assumption)).trans (by assumption))) (lw_V q580 q581 q582 q83 q583) hdX1_limit ⟨by omega, by decide⟩ ⟨by omega, by omega⟩ (Nat.le_of_ble_eq_true rfl) dX1_put_120 rfl (eI fun z120 hp120 p120 => ?_) rfl
    obtain ⟨ez120, fz120⟩ := p120
    have ez120 := ez120.symm
    have fz120 := fz120.symm
    subst ez120 fz120
    refine v_icmp_gt (n' := 126) (tgt := 128) h dX1_put_123 rfl rfl (by omega) (by omega) (fun c123 => ?_) (fun c123 => ?_)
    · refine v_iload_n (n' := 129) h dX1_put_128 rfl rfl ?_
      refine v_iconst (n' := 130) h dX1_put_129 rfl ?_
      refine v_isub (n' := 131) h dX1_put_130 rfl ?_
      refine v_istore4 (n' := 133) h dX1_put_131 rfl rfl ?_
      have hg : ¬ (dep (ins T key) key : Int) ≤ (lim a b ((tz T : Int) + 1) : Int) := by rw [hdep]; omega
      have hrev : scp a b (ins T key) (way (ins T key) key).reverse = scp a b (ins T key) (way T key).reverse := by
        rw [ins_way hk, List.reverse_append]
        refine scp_cons.2 ?_
        rw [sub_ins hk]
        have ab := rat_cases hab
        simp only [lop, tz]
        rcases ab with ⟨rfl, rfl⟩ | ⟨rfl, rfl⟩ | ⟨rfl, rfl⟩ | ⟨rfl, rfl⟩ <;> omega
      refine put_loop (te := (T, mo, bu, co, cr, lo)) h hq hde hab hk hs (by dsimp only; omega) _ bu co _ _ hB4 hp4 (Fsh hp) hTT4 h4L (h4F.fre hf) (fun hp' e hsc => ?_) (fun y hp' hsc q1 q2 => ?_) (way T key).length (Nat.le_refl _) (by rw [List.take_length])
      · subst e
        have e := entR_b (a := a) (b := b) (T := T) (k := key) hg (hrev.trans hsc)
        exact ⟨by rw [e]; rfl, by rw [teEnter_0 hk e]; exact hTT4, h4F⟩
      · have e := entR_c (a := a) (b := b) (T := T) (k := key) hg (hrev.trans hsc)
        have hyT : y ∈ tl (ins T key) := ins_mem.mpr (Or.inr (way_mem (List.mem_reverse.mp (scp_mem hsc))))
        obtain ⟨sl, sr, hsub⟩ := sub_root (ins_srt hs hk) hyT
        have hn0 : tz (sub (ins T key) y) ≠ 0 := by rw [hsub]; simp [tz]
        exact ⟨by rw [e], by rw [teEnter_1 hk e hn0]; exact q1, h4F.tr q2⟩
    · refine v_iconst (n' := 127) h dX1_put_126 rfl ?_
      refine v_iret h hq dX1_put_127 (by omega) (by omega) (ret_i ?_)
      have e := entR_a (a := a) (b := b) (T := T) (k := key) (by rw [hdep]; omega)
      exact ⟨by rw [e]; rfl, by rw [teEnter_0 hk e]; exact hTT4, h4F⟩
  refine v_aload_n (n' := 1) h dX1_put_0 rfl rfl ?_
  refine v_aload_n (n' := 2) h dX1_put_1 rfl rfl ?_
  refine v_ekey (n' := 5) h q424 dX1_put_2 rfl (by first | assumption | exact upH_s | exact (upH_n (by assumption)).trans (by assumption) | exact (upH_n (by assumption)).trans upH_s | exact (upH_n (by assumption)).trans ((upH_n (by assumption)).trans (by assumption))) (by omega) ?_
  refine vc_callV (n' := 8) (ci := 1) h ((cw).d hde) rfl (by first | assumption | exact upH_s | exact (upH_n (by assumption)).trans (by assumption) | exact (upH_n (by assumption)).trans upH_s | exact (upH_n (by assumption)).trans ((upH_n (by assumption)).trans (by assumption))) (lw_V q564 q565 q566 q83 q567) hdX1_wayTo ⟨by omega, by decide⟩ ⟨by omega, by omega⟩ (Nat.le_of_ble_eq_true rfl) dX1_put_5 rfl (eR fun z5 hp5 p5 => ?_) rfl
  obtain ⟨L5, F5⟩ := p5
  have hx5 := F5.ex hx
  have ht5 := F5.ex ht
  obtain ⟨arr, hl5⟩ := L5.len
  rw [hlen] at hl5
  have hT5 := hT'.ex (fun q e => F5.ex)
  have F5W : Frm W hp hp5 := F5.wk (fun q hq => hf q hq)
  have ntx : t ≠ x := cell_ne ht hx (fun z => by have := congrArg Prod.fst (Sum.inr.inj z); simp at this; omega)
  refine v_astore2 (n' := 9) h dX1_put_8 rfl rfl ?_
  refine v_aload_n (n' := 10) h dX1_put_9 rfl rfl ?_
  refine vc_callV (n' := 13) (ci := 10) h ((c_size de hp5 z5 _ _ arr hl5).d hde) rfl (by first | assumption | exact upH_s | exact (upH_n (by assumption)).trans (by assumption) | exact (upH_n (by assumption)).trans upH_s | exact (upH_n (by assumption)).trans ((upH_n (by assumption)).trans (by assumption))) (lw_V q571 q394 q395 q86 q396) hdJ2_size ⟨by omega, by decide⟩ ⟨by omega, by omega⟩ (Nat.le_of_ble_eq_true rfl) dX1_put_10 rfl (eI fun z10 hp10 p10 => ?_) rfl
  obtain ⟨ez10, fz10⟩ := p10
  have ez10 := ez10.symm
  have fz10 := fz10.symm
  subst ez10 fz10
  refine v_istore3 (n' := 14) h dX1_put_13 rfl rfl ?_
  refine v_iload_n (n' := 15) h dX1_put_14 rfl rfl ?_
  refine v_if_ne (n' := 18) (tgt := 26) h dX1_put_15 rfl rfl (by omega) (fun c15 => ?_) (fun c15 => ?_)
  · obtain ⟨p, hp1⟩ : ∃ p, (way T key)[(way T key).length - 1]? = some p := ⟨_, List.getElem?_eq_getElem (by omega)⟩
    have hgp : ((way T key).map ad')[(way T key).length - 1]? = some (ad' p) := by rw [List.getElem?_map, hp1]; rfl
    have hlast : (way T key).getLast? = some p := by rw [List.getLast?_eq_getElem?]; exact hp1
    have hpT := way_mem (List.mem_of_getElem? hp1)
    obtain ⟨lp, rp, hcp, hWp, hp100, hKp⟩ := hT5.at hpT
    have ep : ((way T key).length : Int) - 1 = (((way T key).length - 1 : Nat) : Int) := by omega
    have ntp : t ≠ ad' p := cell_ne ht5 hcp (fun z => by have := congrArg Prod.fst (Sum.inr.inj z); simp at this; omega)
    have nxp : x ≠ ad' p := cell_ne hx5 hcp (fun z => by have := eO_key (by omega) (by omega) z; exact hne p hpT (by omega))
    have hTl : T ≠ .leaf () := fun z => by rw [z] at hpT; simp [tl] at hpT
    have link : ∀ c', c' = (if key < p then eO (K' p).toNat p (U' p) (some (ad' key)) rp else eO (K' p).toNat p (U' p) lp (some (ad' key))) → V Γ 6 132 (upH hp5 (ad' p) c') 77 [some (.ref t), some (.ref x), some (.ref z5), some (.int (iI ((way T key).length : Int))), none] [] := by
      intro c' hc'
      refine tail z5 _ ((upH_n ntp).trans (by rw [ins_ro hTl]; exact ht5)) ?_ ?_ (F5W.tr (Frm.up hWp))
      · refine HT_ins (hp := hp5) ⟨?_, ?_, hk1, ?_⟩ p hT5 hs hk hlast (fun y hy hyp => upH_n (fun z => hyp (hT5.inj hT5 hy hpT z))) ⟨lp, rp, hcp, by rw [upH_s, hc']⟩
        · rw [hkx, upH_n nxp, hkK, hkU]
          exact hx5
        · rw [hkx]; exact hWx
        · rw [hkK]; omega
      · refine L5.cell (fun q c h1 h2 => (upH_n (fun z => ?_)).trans h1)
        rw [z, hcp] at h1
        exact h2 _ _ (by omega) (Option.some.inj h1).symm
    refine v_aload_n (n' := 27) h dX1_put_26 rfl rfl ?_
    refine v_ekey (n' := 30) h q424 dX1_put_27 rfl (by first | assumption | exact upH_s | exact (upH_n (by assumption)).trans (by assumption) | exact (upH_n (by assumption)).trans upH_s | exact (upH_n (by assumption)).trans ((upH_n (by assumption)).trans (by assumption))) (by omega) ?_
    refine v_aload_n (n' := 31) h dX1_put_30 rfl rfl ?_
    refine v_iload_n (n' := 32) h dX1_put_31 rfl rfl ?_
    refine v_iconst (n' := 33) h dX1_put_32 rfl ?_
    refine v_isub (n' := 34) h dX1_put_33 rfl ?_
    rw [ep]
    refine vc_callV (n' := 37) (ci := 10) h ((c_get de hp5 (Fsh hp) z5 _ _ _ L5 hgp (by omega)).d hde) rfl (by first | assumption | exact upH_s | exact (upH_n (by assumption)).trans (by assumption) | exact (upH_n (by assumption)).trans upH_s | exact (upH_n (by assumption)).trans ((upH_n (by assumption)).trans (by assumption))) (lw_V q572 q398 q399 q86 q400) hdJ2_get ⟨by omega, by decide⟩ ⟨by omega, by omega⟩ (Nat.le_of_ble_eq_true rfl) dX1_put_34 rfl (eR fun z34 hp34 p34 => ?_) rfl
    obtain ⟨ez34, fz34⟩ := p34
    have ez34 := ez34.symm
    have fz34 := fz34.symm
    subst ez34 fz34
    refine v_castE (n' := 40) h q573 dX1_put_37 rfl (by first | assumption | exact upH_s | exact (upH_n (by assumption)).trans (by assumption) | exact (upH_n (by assumption)).trans upH_s | exact (upH_n (by assumption)).trans ((upH_n (by assumption)).trans (by assumption))) (by omega) ?_
    refine v_ekey (n' := 43) h q424 dX1_put_40 rfl (by first | assumption | exact upH_s | exact (upH_n (by assumption)).trans (by assumption) | exact (upH_n (by assumption)).trans upH_s | exact (upH_n (by assumption)).trans ((upH_n (by assumption)).trans (by assumption))) (by omega) ?_
    refine v_icmp_ge (n' := 46) (tgt := 63) h dX1_put_43 rfl rfl (by omega) (by omega) (fun c43 => ?_) (fun c43 => ?_)
    · refine v_aload_n (n' := 64) h dX1_put_63 rfl rfl ?_
      refine v_iload_n (n' := 65) h dX1_put_64 rfl rfl ?_
      refine v_iconst (n' := 66) h dX1_put_65 rfl ?_
      refine v_isub (n' := 67) h dX1_put_66 rfl ?_
      rw [ep]
      refine vc_callV (n' := 70) (ci := 10) h ((c_get de hp5 (Fsh hp) z5 _ _ _ L5 hgp (by omega)).d hde) rfl (by first | assumption | exact upH_s | exact (upH_n (by assumption)).trans (by assumption) | exact (upH_n (by assumption)).trans upH_s | exact (upH_n (by assumption)).trans ((upH_n (by assumption)).trans (by assumption))) (lw_V q572 q398 q399 q86 q400) hdJ2_get ⟨by omega, by decide⟩ ⟨by omega, by omega⟩ (Nat.le_of_ble_eq_true rfl) dX1_put_67 rfl (eR fun z67 hp67 p67 => ?_) rfl
      obtain ⟨ez67, fz67⟩ := p67
      have ez67 := ez67.symm
      have fz67 := fz67.symm
      subst ez67 fz67
      refine v_castE (n' := 73) h q573 dX1_put_70 rfl (by first | assumption | exact upH_s | exact (upH_n (by assumption)).trans (by assumption) | exact (upH_n (by assumption)).trans upH_s | exact (upH_n (by assumption)).trans ((upH_n (by assumption)).trans (by assumption))) (by omega) ?_
      refine v_aload_n (n' := 74) h dX1_put_73 rfl rfl ?_
      refine v_pright (n' := 77) (z := some _) h q430 dX1_put_74 rfl (by first | assumption | exact upH_s | exact (upH_n (by assumption)).trans (by assumption) | exact (upH_n (by assumption)).trans upH_s | exact (upH_n (by assumption)).trans ((upH_n (by assumption)).trans (by assumption))) (by omega) ?_
      exact link _ (by rw [if_neg (by omega), hkx])
    · refine v_aload_n (n' := 47) h dX1_put_46 rfl rfl ?_
      refine v_iload_n (n' := 48) h dX1_put_47 rfl rfl ?_
      refine v_iconst (n' := 49) h dX1_put_48 rfl ?_
      refine v_isub (n' := 50) h dX1_put_49 rfl ?_
      rw [ep]
      refine vc_callV (n' := 53) (ci := 10) h ((c_get de hp5 (Fsh hp) z5 _ _ _ L5 hgp (by omega)).d hde) rfl (by first | assumption | exact upH_s | exact (upH_n (by assumption)).trans (by assumption) | exact (upH_n (by assumption)).trans upH_s | exact (upH_n (by assumption)).trans ((upH_n (by assumption)).trans (by assumption))) (lw_V q572 q398 q399 q86 q400) hdJ2_get ⟨by omega, by decide⟩ ⟨by omega, by omega⟩ (Nat.le_of_ble_eq_true rfl) dX1_put_50 rfl (eR fun z50 hp50 p50 => ?_) rfl
      obtain ⟨ez50, fz50⟩ := p50
      have ez50 := ez50.symm
      have fz50 := fz50.symm
      subst ez50 fz50
      refine v_castE (n' := 56) h q573 dX1_put_53 rfl (by first | assumption | exact upH_s | exact (upH_n (by assumption)).trans (by assumption) | exact (upH_n (by assumption)).trans upH_s | exact (upH_n (by assumption)).trans ((upH_n (by assumption)).trans (by assumption))) (by omega) ?_
      refine v_aload_n (n' := 57) h dX1_put_56 rfl rfl ?_
      refine v_pleft (n' := 60) (z := some _) h q428 dX1_put_57 rfl (by first | assumption | exact upH_s | exact (upH_n (by assumption)).trans (by assumption) | exact (upH_n (by assumption)).trans upH_s | exact (upH_n (by assumption)).trans ((upH_n (by assumption)).trans (by assumption))) (by omega) ?_
      refine v_goto (tgt := 77) h dX1_put_60 rfl ?_
      exact link _ (by rw [if_pos (by omega), hkx])
  · refine v_aload_n (n' := 19) h dX1_put_18 rfl rfl ?_
    refine v_aload_n (n' := 20) h dX1_put_19 rfl rfl ?_
    refine v_put (n' := 23) (ci := 1) h rfl in_X1 tyX1 tyX1_ok nmX1 0 (by decide) q118 rfl rfl dX1_put_20 rfl (by first | assumption | exact upH_s | exact (upH_n (by assumption)).trans (by assumption) | exact (upH_n (by assumption)).trans upH_s | exact (upH_n (by assumption)).trans ((upH_n (by assumption)).trans (by assumption))) (by show 0 < 10; decide) rfl rfl ?_
    refine v_goto (tgt := 77) h dX1_put_23 rfl ?_
    have hl : (way T key).length = 0 := by omega
    have hT0 : T = .leaf () := way_nil.mp (List.length_eq_zero_iff.mp hl)
    subst hT0
    refine tail z5 _ ?_ ?_ ?_ (F5W.tr (Frm.up hWt))
    · rw [upH_s]
      show some (Sum.inr _) = some (Sum.inr _)
      rw [show (ro (ins (.leaf ()) key)).map ad' = some x from congrArg some hkx]
      rfl
    · refine HT.br.mpr ⟨⟨?_, ?_, hk1, ?_⟩, trivial, trivial⟩
      · rw [hkx, upH_n (fun z => ntx z.symm), hkK, hkU]
        exact hx5
      · rw [hkx]; exact hWx
      · rw [hkK]; omega
    · obtain ⟨arr', l1, l2, l3⟩ := L5
      have n1 : z5 ≠ t := cell_ne l1 ht5 (fun z => by have := congrArg Prod.fst (Sum.inr.inj z); simp at this)
      exact ⟨arr', (upH_n n1).trans l1, l2, l3.imp id (fun q => absurd rfl q.1)⟩
