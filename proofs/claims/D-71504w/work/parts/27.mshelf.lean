/-! MODEL 17: a shelf read off the page -/
set_option maxRecDepth 100000
theorem lvalid_snoc (lg : List Int) (x : Int) : ∀ S : List Nat, lvalid S (lg ++ [x]) ↔ (lvalid S lg ∧ (if x < 0 then (-1 - x).toNat ∈ lg.foldl lstep S ∧ -1 - x < 100 else x < 100 ∧ x.toNat ∉ lg.foldl lstep S ∧ (lg.foldl lstep S).length < 40)) := by
  induction lg with
  | nil =>
    intro S
    show (_ ∧ True) ↔ (True ∧ _)
    exact ⟨fun z => ⟨trivial, z.1⟩, fun z => ⟨z.2, trivial⟩⟩
  | cons y lg ih =>
    intro S
    show (_ ∧ lvalid (lstep S y) (lg ++ [x])) ↔ ((_ ∧ lvalid (lstep S y) lg) ∧ _)
    rw [ih (lstep S y)]
    exact ⟨fun z => ⟨⟨z.1, z.2.1⟩, z.2.2⟩, fun z => ⟨z.1.1, z.1.2, z.2⟩⟩
theorem LogOk.put {a b fee : Int} {lg : List Int} {te : Tre} {k : Nat} (h : LogOk lg te.1) (hs : Srt te.1) (hk : k ∉ tl te.1) (hk1 : k < 100) (hz : tz te.1 < 40) : LogOk (lgw lg (k : Int)) (teEnter a b fee te k).1 := by
  unfold lgw
  by_cases c : lg.length < 60
  · rw [if_pos c]
    have hp := h.2 c
    have hv : (if (k : Int) < 0 then (-1 - (k : Int)).toNat ∈ lg.foldl lstep [] ∧ -1 - (k : Int) < 100 else (k : Int) < 100 ∧ (k : Int).toNat ∉ lg.foldl lstep [] ∧ (lg.foldl lstep []).length < 40) := by
      rw [if_neg (by omega), hp.length_eq, Int.toNat_natCast, hp.mem_iff, tz_len]
      exact ⟨by omega, hk, hz⟩
    refine ⟨(lvalid_snoc lg _ []).mpr ⟨h.1, hv⟩, fun _ => ?_⟩
    rw [List.foldl_append]
    have := step_perm (a := a) (b := b) (fee := fee) hs hp hv
    unfold rpStep at this
    rw [if_neg (by omega), Int.toNat_natCast] at this
    exact this
  · rw [if_neg c]
    exact ⟨h.1, fun z => absurd z c⟩
theorem LogOk.take {a b fee : Int} {lg : List Int} {te : Tre} {k : Nat} (h : LogOk lg te.1) (hs : Srt te.1) (hk : k ∈ tl te.1) (hk1 : k < 100) : LogOk (lgw lg (-1 - (k : Int))) (teLeave a b fee te k).1 := by
  unfold lgw
  have e : (-1 - (-1 - (k : Int))) = (k : Int) := by omega
  by_cases c : lg.length < 60
  · rw [if_pos c]
    have hp := h.2 c
    have hv : (if (-1 - (k : Int)) < 0 then (-1 - (-1 - (k : Int))).toNat ∈ lg.foldl lstep [] ∧ -1 - (-1 - (k : Int)) < 100 else (-1 - (k : Int)) < 100 ∧ (-1 - (k : Int)).toNat ∉ lg.foldl lstep [] ∧ (lg.foldl lstep []).length < 40) := by
      rw [if_pos (by omega), e, Int.toNat_natCast, hp.mem_iff]
      exact ⟨hk, by omega⟩
    refine ⟨(lvalid_snoc lg _ []).mpr ⟨h.1, hv⟩, fun _ => ?_⟩
    rw [List.foldl_append]
    have := step_perm (a := a) (b := b) (fee := fee) hs hp hv
    unfold rpStep at this
    rw [if_pos (by omega), e, Int.toNat_natCast] at this
    exact this
  · rw [if_neg c]
    exact ⟨h.1, fun z => absurd z c⟩
theorem entR_srt {a b : Int} {T : Tr} {k : Nat} (hs : Srt T) (hk : k ∉ tl T) : Srt (entR a b T k).1 := by
  have := ins_srt hs hk
  unfold Srt at this ⊢
  rw [entR_tl hs hk]
  exact this
theorem ShOk.put {a b fee B : Int} {h : Shf} {kind v : Int} {k : Nat} (hh : ShOk h B) (hB : 0 ≤ B) (hk : k ∉ tl h.1.1) (hk1 : k < 100) (hz : tz h.1.1 < 40) (hf : 0 ≤ fee ∧ fee ≤ 9) (hkd : 0 ≤ kind ∧ kind ≤ 4) (hv : 0 ≤ v ∧ v ≤ 999) : ShOk (shPut a b fee h kind k v) (B + 450) := by
  obtain ⟨h1, h2, h3, h4, h5, h6, h7⟩ := hh
  have et : tl (shPut a b fee h kind k v).1.1 = tl (ins h.1.1 k) := entR_tl h1 hk
  have hm : ∀ x, x ∈ tl (shPut a b fee h kind k v).1.1 → x = k ∨ x ∈ tl h.1.1 := by
    intro x hx
    rw [et] at hx
    exact ins_mem.mp hx
  refine ⟨entR_srt h1 hk, fun x hx => ?_, ?_, teEnter_B h4 hB hz hf, fun x hx => ?_, h6.put h1 hk hk1 hz, h7⟩
  · rcases hm x hx with rfl | hx
    · exact hk1
    · exact h2 x hx
  · rw [tz_tl et, ins_tz]; omega
  · show (0 ≤ (if x = k then kind else h.2.1 x) ∧ (if x = k then kind else h.2.1 x) ≤ 4) ∧ (0 ≤ (if x = k then v else h.2.2.1 x) ∧ (if x = k then v else h.2.2.1 x) ≤ 999)
    by_cases c : x = k
    · rw [if_pos c, if_pos c]; exact ⟨hkd, hv⟩
    · rw [if_neg c, if_neg c]
      exact h5 x ((hm x hx).resolve_left c)
def sh0 : Shf := (te0, fun _ => 0, fun _ => 0, [], [])
theorem sh0_ok : ShOk sh0 0 := by
  refine ⟨List.Pairwise.nil, fun k hk => absurd hk List.not_mem_nil, Nat.zero_le _, ?_, fun k hk => absurd hk List.not_mem_nil, ⟨trivial, fun _ => List.Perm.refl _⟩, fun x hx => absurd hx List.not_mem_nil⟩
  unfold TeB sh0 te0
  decide
noncomputable def shN (g : Int → Int) (a b fee : Int) : Nat → Shf
  | 0 => sh0
  | j + 1 => shPut a b fee (shN g a b fee j) (kindBy (g (5 + 6 * (j : Int)))) (KeyAt g (6 + 6 * (j : Int))).toNat (g (9 + 6 * (j : Int)) - 48)
/-- what an entry of a good page is -/
def EOk (g : Int → Int) (j : Nat) : Prop := (0 ≤ kindBy (g (5 + 6 * (j : Int))) ∧ kindBy (g (5 + 6 * (j : Int))) ≤ 4) ∧ (0 ≤ KeyAt g (6 + 6 * (j : Int)) ∧ KeyAt g (6 + 6 * (j : Int)) < 100) ∧ (48 ≤ g (9 + 6 * (j : Int)) ∧ g (9 + 6 * (j : Int)) ≤ 57) ∧ ∀ i : Nat, i < j → KeyAt g (6 + 6 * (i : Int)) ≠ KeyAt g (6 + 6 * (j : Int))
theorem EOk_of {g : Int → Int} {j : Nat} (h : ∀ k, 0 ≤ k → k < 10 + 6 * (j : Int) → Good g k) : EOk g j := by
  have hs : ∀ i : Int, 0 ≤ i ∧ i < 5 → ESign g j i := by
    intro i hi
    have := h (5 + 6 * (j : Int) + i) (by omega) (by omega)
    unfold Good at this
    rw [if_neg (by omega), if_neg (by omega), if_neg (by omega), if_neg (by omega), show ((5 + 6 * (j : Int) + i - 5) / 6).toNat = j by omega, show (5 + 6 * (j : Int) + i - 5) % 6 = i by omega] at this
    exact this
  have a0 : kindBy (g (5 + 6 * (j : Int))) ≠ -1 := hs 0 (by omega)
  have a1 : digit (g (6 + 6 * (j : Int))) := hs 1 (by omega)
  have a2 : digit (g (7 + 6 * (j : Int))) ∧ ¬ Told g j (KeyAt g (6 + 6 * (j : Int))) := hs 2 (by omega)
  have a4 : digit (g (9 + 6 * (j : Int))) := hs 4 (by omega)
  have kr := kindBy_r (g (5 + 6 * (j : Int)))
  refine ⟨by omega, ?_, a4, fun i hi e => a2.2 ⟨i, hi, e⟩⟩
  have a3 := a2.1
  unfold digit at a1 a3
  unfold KeyAt
  rw [show 6 + 6 * (j : Int) + 1 = 7 + 6 * (j : Int) by omega]
  omega
theorem shN_ok {g : Int → Int} {a b fee : Int} (hf : 0 ≤ fee ∧ fee ≤ 9) : ∀ j : Nat, j ≤ 8 → (∀ i, i < j → EOk g i) → ShOk (shN g a b fee j) (450 * (j : Int)) ∧ tz (shN g a b fee j).1.1 = j ∧ ∀ k, k ∈ tl (shN g a b fee j).1.1 → ∃ i : Nat, i < j ∧ k = (KeyAt g (6 + 6 * (i : Int))).toNat := by
  intro j
  induction j with
  | zero => intro _ _; exact ⟨sh0_ok, rfl, fun k hk => absurd hk List.not_mem_nil⟩
  | succ j ih =>
    intro h8 hE
    obtain ⟨i1, i2, i3⟩ := ih (by omega) (fun i hi => hE i (by omega))
    obtain ⟨e1, e2, e3, e4⟩ := hE j (by omega)
    have hk : (KeyAt g (6 + 6 * (j : Int))).toNat ∉ tl (shN g a b fee j).1.1 := by
      intro z
      obtain ⟨i, hi, ei⟩ := i3 _ z
      have := (hE i (by omega)).2.1
      exact e4 i hi (by omega)
    have et : tl (shN g a b fee (j + 1)).1.1 = tl (ins (shN g a b fee j).1.1 (KeyAt g (6 + 6 * (j : Int))).toNat) := entR_tl i1.1 hk
    refine ⟨?_, ?_, ?_⟩
    · have := i1.put (a := a) (b := b) (fee := fee) (kind := kindBy (g (5 + 6 * (j : Int)))) (v := g (9 + 6 * (j : Int)) - 48) (by omega) hk (by omega) (by omega) hf e1 (by omega)
      rw [show 450 * (j : Int) + 450 = 450 * ((j + 1 : Nat) : Int) by omega] at this
      exact this
    · rw [tz_tl et, ins_tz, i2]
    · intro k hk
      rw [et] at hk
      rcases ins_mem.mp hk with rfl | hk
      · exact ⟨j, by omega, rfl⟩
      · obtain ⟨i, hi, ei⟩ := i3 k hk
        exact ⟨i, by omega, ei⟩
/-- the page holds a shelf -/
def PageOk (g : Int → Int) (n : Int) : Prop := 5 ≤ n ∧ Flt g n n ∧ (n = 5 ∨ (n - 5) % 6 = 5)
noncomputable def oShelf (s : SS) : Int × SS := @ite _ (PageOk (sPg s) (sPn s)) (Classical.propDecidable _) (((tz (shN (sPg s) (sPg s 0 - 48) (sPg s 1 - 48) (sPg s 3 - 48) ((sPn s - 4) / 6).toNat).1.1 : Nat) : Int), (sPg s, 0, sSh s + 1, sPg s 0 - 48, sPg s 1 - 48, sPg s 3 - 48, shN (sPg s) (sPg s 0 - 48) (sPg s 1 - 48) (sPg s 3 - 48) ((sPn s - 4) / 6).toNat, sKn s, sK s)) (-103, s)
theorem m_shelf_loop {Γ : GX} {ad : Nat → Nat} {σ0 : MS} {s s' : SS} {g : Int → Int} {a b fee : Int} {q : Nat} {z0 : Int} (hok : AdOk ad) (hg0 : σ0.2 0 = g) (hgr : ∀ i, 0 ≤ g i ∧ g i ≤ 126) (ha : σ0.1 14 = a) (hb : σ0.1 15 = b) (hf : σ0.1 18 = fee) (hab : isRat a b) (hf9 : 0 ≤ fee ∧ fee ≤ 9) (hpn : σ0.1 1 = sPn s ∧ sPn s ≤ 54) (hsh : σ0.1 23 = sSh s ∧ 0 ≤ sSh s ∧ sSh s ≤ 64) (hkn : σ0.1 31 = sKn s ∧ sKn s ≤ sSh s) (hqn : sPn s ≤ 5 + 6 * (q : Int) ∧ 6 * (q : Int) ≤ sPn s) (hq8 : q ≤ 8) (hE : ∀ i, i < q → EOk g i)
    (h : Ok0 cX2_shelf yX2_shelf.cls (some .int) (rmL 6) Γ) (hq : Rt (PI ad (fun z σ' => z = z0 ∧ MRel σ' s')) 0 0 Γ) (hz0 : z0 = (tz (shN g a b fee q).1.1 : Int)) (hs' : s' = (g, 0, sSh s + 1, a, b, fee, shN g a b fee q, sKn s, sK s)) :
    ∀ (m j : Nat) (σ : MS), j + m = q → MR σ → Fpu σ0 σ → ShfR σ (shN g a b fee j) → V Γ 0 0 (mH ad σ) 109 [some (.ref (ad 50)), some (.int (iI (5 + 6 * (j : Int))))] [] := by
  intro m
  induction m with
  | zero =>
    intro j σ hj hm hF hS
    obtain rfl : j = q := by omega
    have f1 : ∀ f, f ≠ 9 → f ≠ 19 → f ≠ 20 → f ≠ 22 → σ.1 f = σ0.1 f := hF.1
    have e1 : σ.1 1 = sPn s := by rw [f1 1 (by decide) (by decide) (by decide) (by decide)]; exact hpn.1
    have e23 : σ.1 23 = sSh s := by rw [f1 23 (by decide) (by decide) (by decide) (by decide)]; exact hsh.1
    refine v_iload_n (n' := 110) h dX2_shelf_109 rfl rfl ?_
    refine v_aload_n (n' := 111) h dX2_shelf_110 rfl rfl ?_
    refine vm_geti (n' := 114) h hm 1 (by decide) q938 dX2_shelf_111 rfl (fun g111 => ?_)
    refine v_icmp_ge (n' := 117) (tgt := 154) h dX2_shelf_114 rfl rfl (by omega) (by omega) (fun c114 => ?_) (fun c114 => ?_)
    · refine v_aload_n (n' := 155) h dX2_shelf_154 rfl rfl ?_
      refine v_dup (n' := 156) h dX2_shelf_155 rfl rfl ?_
      refine vm_geti (n' := 159) h hm 23 (by decide) q960 dX2_shelf_156 rfl (fun g156 => ?_)
      refine v_iconst (n' := 160) h dX2_shelf_159 rfl ?_
      refine v_iadd (n' := 161) h dX2_shelf_160 rfl ?_
      refine vm_puti (n' := 164) h hm 23 (by decide) q960 dX2_shelf_161 rfl (by omega) (fun m161 => ?_)
      refine v_aload_n (n' := 165) h dX2_shelf_164 rfl rfl ?_
      refine v_iconst (n' := 166) h dX2_shelf_165 rfl ?_
      refine vm_puti (n' := 169) h m161 1 (by decide) q938 dX2_shelf_166 rfl (by omega) (fun m166 => ?_)
      refine v_aload_n (n' := 170) h dX2_shelf_169 rfl rfl ?_
      refine vm_geta (n' := 173) h 7 (by decide) q944 dX2_shelf_170 rfl ?_
      refine v_iconst (n' := 174) h dX2_shelf_173 rfl ?_
      refine vm_iald (n' := 175) h hok m166 7 2 (by decide) dX2_shelf_174 rfl (by omega) (by decide) (fun g174 => ?_)
      refine v_iret h hq dX2_shelf_175 (Nat.le_refl _) (Nat.le_refl _) (ret_mi m166 ?_)
      subst hs'
      refine ⟨by rw [hz0]; exact hS.1.2.1, fun i => ?_, setI_1s, by rw [setI_1n (by decide), setI_1s, e23]; rfl, ?_, ?_, ?_, hS.cg (fun f i _ => rfl) (fun f hf => by rw [setI_1n (by omega), setI_1n (by omega)]), ?_, fun z => ?_⟩
      · show σ.2 0 i = g i
        rw [hF.2 0 i (by unfold wr; omega) (by decide) (by decide) (by decide), hg0]
      · rw [setI_1n (by decide), setI_1n (by decide), f1 14 (by decide) (by decide) (by decide) (by decide)]; exact ha
      · rw [setI_1n (by decide), setI_1n (by decide), f1 15 (by decide) (by decide) (by decide) (by decide)]; exact hb
      · rw [setI_1n (by decide), setI_1n (by decide), f1 18 (by decide) (by decide) (by decide) (by decide)]; exact hf
      · rw [setI_1n (by decide), setI_1n (by decide), f1 31 (by decide) (by decide) (by decide) (by decide)]; exact hkn.1
      · exfalso
        have z : sKn s = sSh s + 1 := z
        omega
    · exact absurd (show σ.1 1 ≤ 5 + 6 * (j : Int) by omega) c114
  | succ m ih =>
    intro j σ hj hm hF hS
    have f1 : ∀ f, f ≠ 9 → f ≠ 19 → f ≠ 20 → f ≠ 22 → σ.1 f = σ0.1 f := hF.1
    have e1 : σ.1 1 = sPn s := by rw [f1 1 (by decide) (by decide) (by decide) (by decide)]; exact hpn.1
    have eg : σ.2 0 = g := by funext i; rw [hF.2 0 i (by unfold wr; omega) (by decide) (by decide) (by decide), hg0]
    have ok := shN_ok (g := g) (a := a) (b := b) hf9 j (by omega) (fun i hi => hE i (by omega))
    obtain ⟨y1, y2, y3, y4⟩ := hE j (by omega)
    have hpg : PgOk σ := ⟨fun i => by rw [eg]; exact hgr i, by rw [e1]; omega⟩
    have ge := hgr (5 + 6 * (j : Int))
    have hk : (KeyAt g (6 + 6 * (j : Int))).toNat ∉ tl (shN g a b fee j).1.1 := by
      intro z
      obtain ⟨i, hi, ei⟩ := ok.2.2 _ z
      have := (hE i (by omega)).2.1
      exact y4 i hi (by omega)
    have e14 : σ.1 14 = a := by rw [f1 14 (by decide) (by decide) (by decide) (by decide)]; exact ha
    have e15 : σ.1 15 = b := by rw [f1 15 (by decide) (by decide) (by decide) (by decide)]; exact hb
    have e18 : σ.1 18 = fee := by rw [f1 18 (by decide) (by decide) (by decide) (by decide)]; exact hf
    have eK : KeyAt g (5 + 6 * (j : Int) + 1) = ((KeyAt g (6 + 6 * (j : Int))).toNat : Int) := by rw [show 5 + 6 * (j : Int) + 1 = 6 + 6 * (j : Int) by omega]; omega
    have eV : 5 + 6 * (j : Int) + 4 = 9 + 6 * (j : Int) := by omega
    refine v_iload_n (n' := 110) h dX2_shelf_109 rfl rfl ?_
    refine v_aload_n (n' := 111) h dX2_shelf_110 rfl rfl ?_
    refine vm_geti (n' := 114) h hm 1 (by decide) q938 dX2_shelf_111 rfl (fun g111 => ?_)
    refine v_icmp_ge (n' := 117) (tgt := 154) h dX2_shelf_114 rfl rfl (by omega) (by omega) (fun c114 => ?_) (fun c114 => ?_)
    · exact absurd c114 (by omega)
    · refine v_aload_n (n' := 118) h dX2_shelf_117 rfl rfl ?_
      refine v_aload_n (n' := 119) h dX2_shelf_118 rfl rfl ?_
      refine vm_geta (n' := 122) h 0 (by decide) q937 dX2_shelf_119 rfl ?_
      refine v_iload_n (n' := 123) h dX2_shelf_122 rfl rfl ?_
      refine vm_iald (n' := 124) h hok hm 0 54 (by decide) dX2_shelf_123 rfl (by omega) (by decide) (fun g123 => ?_)
      rw [eg]
      refine vs_callI (n' := 127) h (m_kindBy _ (by omega)) (lw_S q1124 q1125 q87 q1126) hdX2_kindBy (by decide) ⟨Nat.zero_le _, Nat.zero_le _⟩ (Nat.le_of_ble_eq_true rfl) dX2_shelf_124 rfl rfl (fun z124 p124 => ?_)
      have p124 := p124.symm
      subst p124
      refine v_aload_n (n' := 128) h dX2_shelf_127 rfl rfl ?_
      refine v_iload_n (n' := 129) h dX2_shelf_128 rfl rfl ?_
      refine v_iconst (n' := 130) h dX2_shelf_129 rfl ?_
      refine v_iadd (n' := 131) h dX2_shelf_130 rfl ?_
      refine vm_callI (n' := 134) h hok hm (m_keyAt _ _ (by omega) hpg) rfl (lw_V q1132 q1134 qs42 q87 q1135) hdX2_keyAt (by decide) ⟨Nat.zero_le _, Nat.zero_le _⟩ (Nat.le_of_ble_eq_true rfl) dX2_shelf_131 rfl rfl (fun z131 s131 p131 m131 => ?_)
      obtain ⟨ez131, fz131⟩ := p131
      have ez131 := ez131.symm
      have fz131 := fz131.symm
      subst ez131 fz131
      refine v_aload_n (n' := 135) h dX2_shelf_134 rfl rfl ?_
      refine vm_geta (n' := 138) h 0 (by decide) q937 dX2_shelf_135 rfl ?_
      refine v_iload_n (n' := 139) h dX2_shelf_138 rfl rfl ?_
      refine v_iconst (n' := 140) h dX2_shelf_139 rfl ?_
      refine v_iadd (n' := 141) h dX2_shelf_140 rfl ?_
      refine vm_iald (n' := 142) h hok m131 0 54 (by decide) dX2_shelf_141 rfl (by omega) (by decide) (fun g141 => ?_)
      rw [eg, eV] at g141; rw [eg, eK, eV]
      refine v_bipush (n' := 144) h dX2_shelf_142 rfl (by decide) ?_
      refine v_isub (n' := 145) h dX2_shelf_144 rfl ?_
      refine vm_callV (n' := 148) h hok m131 (m_putNew _ _ hS (ok.1.2.2.2.1.le (by omega)) a b fee e14 e15 hab e18 hf9 _ _ _ hk (by omega) (by omega) y1 (by omega)) rfl (lw_V q1144 q1146 qs44 q87 q1147) hdX2_putNew (by decide) ⟨Nat.zero_le _, Nat.zero_le _⟩ (Nat.le_of_ble_eq_true rfl) dX2_shelf_145 rfl rfl (fun s145 p145 m145 => ?_)
      obtain ⟨p1, p2, p3⟩ := p145
      refine v_iinc1 (n' := 151) h dX2_shelf_148 rfl rfl ?_
      refine v_goto (tgt := 109) h dX2_shelf_151 rfl ?_
      have := ih (j + 1) s145 (by omega) m145 (hF.trans p3) p1
      rw [show 5 + 6 * ((j + 1 : Nat) : Int) = 5 + 6 * (j : Int) + 6 by omega] at this
      exact this
theorem m_shelf_43 {Γ : GX} {ad : Nat → Nat} {σ : MS} {s : SS} {n : Int} (hok : AdOk ad) (hm : MR σ) (hR : MRel σ s) (hI : SInv s n) (hP : PageOk (sPg s) (sPn s)) (h : Ok0 cX2_shelf yX2_shelf.cls (some .int) (rmL 6) Γ) (hq : Rt (PI ad (fun z σ' => z = (oShelf s).1 ∧ MRel σ' (oShelf s).2)) 0 0 Γ) : V Γ 0 0 (mH ad σ) 43 [some (.ref (ad 50)), none] [] := by
  have eg : σ.2 0 = sPg s := funext hR.1
  have gd : oShelf s = _ := if_pos hP
  have pg0 := hI.1 0
  have pg1 := hI.1 1
  have pg3 := hI.1 3
  have hsh := hI.2.2.1
  have hn := hI.2.2.2.2.2.2.2
  have hpn := hI.2.1
  obtain ⟨P1, ⟨P2, P3, P4, P5⟩, P6⟩ := hP
  have G1 : isRat (sPg s 0 - 48) (sPg s 1 - 48) := P4 1 (by omega) (by omega)
  have G3 : 49 ≤ sPg s 3 ∧ sPg s 3 ≤ 57 := P4 3 (by omega) (by omega)
  have eqq : ((((sPn s - 4) / 6).toNat : Nat) : Int) = (sPn s - 4) / 6 := by omega
  have lp := fun σ0 e1 e2 e3 e4 e5 e6 e7 => m_shelf_loop (σ0 := σ0) (s := s) (s' := (oShelf s).2) (g := sPg s) (a := sPg s 0 - 48) (b := sPg s 1 - 48) (fee := sPg s 3 - 48) (q := ((sPn s - 4) / 6).toNat) (z0 := (oShelf s).1) hok e1 hI.1 e2 e3 e4 G1 (by omega) ⟨e5, by omega⟩ ⟨e6, by omega, by omega⟩ ⟨e7, hI.2.2.2.2.2.2.1.2⟩ (by omega) (by omega) (fun i hi => EOk_of (fun k k0 k1 => P4 k k0 (by omega))) h hq (by rw [gd]) (by rw [gd])
  refine v_aload_n (n' := 44) h dX2_shelf_43 rfl rfl ?_
  refine v_aload_n (n' := 45) h dX2_shelf_44 rfl rfl ?_
  refine vm_geta (n' := 48) h 0 (by decide) q937 dX2_shelf_45 rfl ?_
  refine v_iconst (n' := 49) h dX2_shelf_48 rfl ?_
  refine vm_iald (n' := 50) h hok hm 0 54 (by decide) dX2_shelf_49 rfl (by omega) (by decide) (fun g49 => ?_)
  rw [eg] at g49 ⊢
  refine v_bipush (n' := 52) h dX2_shelf_50 rfl (by decide) ?_
  refine v_isub (n' := 53) h dX2_shelf_52 rfl ?_
  refine vm_puti (n' := 56) h hm 14 (by decide) q951 dX2_shelf_53 rfl (by omega) (fun m53 => ?_)
  refine v_aload_n (n' := 57) h dX2_shelf_56 rfl rfl ?_
  refine v_aload_n (n' := 58) h dX2_shelf_57 rfl rfl ?_
  refine vm_geta (n' := 61) h 0 (by decide) q937 dX2_shelf_58 rfl ?_
  refine v_iconst (n' := 62) h dX2_shelf_61 rfl ?_
  refine vm_iald (n' := 63) h hok m53 0 54 (by decide) dX2_shelf_62 rfl (by omega) (by decide) (fun g62 => ?_)
  have eg1 : (setI σ 14 (sPg s 0 - 48)).2 0 = sPg s := eg
  rw [eg1] at g62 ⊢
  refine v_bipush (n' := 65) h dX2_shelf_63 rfl (by decide) ?_
  refine v_isub (n' := 66) h dX2_shelf_65 rfl ?_
  refine vm_puti (n' := 69) h m53 15 (by decide) q952 dX2_shelf_66 rfl (by omega) (fun m66 => ?_)
  refine v_aload_n (n' := 70) h dX2_shelf_69 rfl rfl ?_
  refine v_aload_n (n' := 71) h dX2_shelf_70 rfl rfl ?_
  refine vm_geta (n' := 74) h 0 (by decide) q937 dX2_shelf_71 rfl ?_
  refine v_iconst (n' := 75) h dX2_shelf_74 rfl ?_
  refine vm_iald (n' := 76) h hok m66 0 54 (by decide) dX2_shelf_75 rfl (by omega) (by decide) (fun g75 => ?_)
  have eg2 : (setI (setI σ 14 (sPg s 0 - 48)) 15 (sPg s 1 - 48)).2 0 = sPg s := eg
  rw [eg2] at g75 ⊢
  refine v_bipush (n' := 78) h dX2_shelf_76 rfl (by decide) ?_
  refine v_isub (n' := 79) h dX2_shelf_78 rfl ?_
  refine vm_puti (n' := 82) h m66 18 (by decide) q955 dX2_shelf_79 rfl (by omega) (fun m79 => ?_)
  refine v_aload_n (n' := 83) h dX2_shelf_82 rfl rfl ?_
  refine v_iconst (n' := 84) h dX2_shelf_83 rfl ?_
  refine vm_callV (n' := 87) h hok m79 (m_empty _ 0 (Or.inl rfl)) rfl (lw_V q1140 q1142 qs43 q87 q1143) hdX2_empty (by decide) ⟨Nat.zero_le _, Nat.zero_le _⟩ (Nat.le_of_ble_eq_true rfl) dX2_shelf_84 rfl rfl (fun s84 p84 m84 => ?_)
  have p84 := p84.symm
  subst p84
  refine v_aload_n (n' := 88) h dX2_shelf_87 rfl rfl ?_
  refine v_iconst (n' := 89) h dX2_shelf_88 rfl ?_
  refine vm_puti (n' := 92) h m84 19 (by decide) q956 dX2_shelf_89 rfl (by omega) (fun m89 => ?_)
  refine v_aload_n (n' := 93) h dX2_shelf_92 rfl rfl ?_
  refine v_iconst (n' := 94) h dX2_shelf_93 rfl ?_
  refine vm_puti (n' := 97) h m89 20 (by decide) q957 dX2_shelf_94 rfl (by omega) (fun m94 => ?_)
  refine v_aload_n (n' := 98) h dX2_shelf_97 rfl rfl ?_
  refine v_iconst (n' := 99) h dX2_shelf_98 rfl ?_
  refine vm_puti (n' := 102) h m94 22 (by decide) q959 dX2_shelf_99 rfl (by omega) (fun m99 => ?_)
  refine v_aload_n (n' := 103) h dX2_shelf_102 rfl rfl ?_
  refine v_iconst (n' := 104) h dX2_shelf_103 rfl ?_
  refine vm_puti (n' := 107) h m99 28 (by decide) q965 dX2_shelf_104 rfl (by omega) (fun m104 => ?_)
  refine v_iconst (n' := 108) h dX2_shelf_107 rfl ?_
  refine v_istore1 (n' := 109) h dX2_shelf_108 rfl rfl ?_
  have hF := empty_Fr (σ := setI (setI (setI σ 14 (sPg s 0 - 48)) 15 (sPg s 1 - 48)) 18 (sPg s 3 - 48)) (t := 0) (Or.inl rfl)
  have f1 : ∀ f, f ≠ 9 → f ≠ 19 → f ≠ 20 → f ≠ 22 → f ≠ 28 → (setI (setI (setI (setI (emptyS (setI (setI (setI σ 14 (sPg s 0 - 48)) 15 (sPg s 1 - 48)) 18 (sPg s 3 - 48)) 0) 19 0) 20 0) 22 0) 28 0).1 f = (setI (setI (setI σ 14 (sPg s 0 - 48)) 15 (sPg s 1 - 48)) 18 (sPg s 3 - 48)).1 f := by
    intro f a1 a2 a3 a4 a5
    rw [setI_1n a5, setI_1n a4, setI_1n a3, setI_1n a2, hF.1 f a1 (Or.inl ⟨a2, a3⟩)]
  refine lp _ ?_ ?_ ?_ ?_ ?_ ?_ ?_ _ 0 _ (Nat.zero_add _) m104 Fpu.refl ⟨?_, fun k hk => absurd hk List.not_mem_nil, ⟨?_, Nat.zero_le _, fun i hi => absurd hi (Nat.not_lt_zero _)⟩, ⟨?_, Nat.zero_le _, fun i hi => absurd hi (Nat.not_lt_zero _)⟩⟩
  · funext i
    rw [setI_2, setI_2, setI_2, setI_2, hF.2 0 i (by unfold wr; omega)]
    exact hR.1 i
  · rw [f1 14 (by decide) (by decide) (by decide) (by decide) (by decide), setI_1n (by decide), setI_1n (by decide), setI_1s]
  · rw [f1 15 (by decide) (by decide) (by decide) (by decide) (by decide), setI_1n (by decide), setI_1s]
  · rw [f1 18 (by decide) (by decide) (by decide) (by decide) (by decide), setI_1s]
  · rw [f1 1 (by decide) (by decide) (by decide) (by decide) (by decide)]; exact hR.2.1
  · rw [f1 23 (by decide) (by decide) (by decide) (by decide) (by decide)]; exact hR.2.2.1
  · rw [f1 31 (by decide) (by decide) (by decide) (by decide) (by decide)]; exact hR.2.2.2.2.2.2.2.1
  · exact empty_RelT (σ := setI (setI (setI (setI (setI (setI (setI σ 14 (sPg s 0 - 48)) 15 (sPg s 1 - 48)) 18 (sPg s 3 - 48)) 19 0) 20 0) 22 0) 28 0) (Or.inl rfl) (fun _ => rfl)
  · exact setI_1n (by decide)
  · exact setI_1s
theorem m_shelf (σ : MS) (s : SS) (n : Int) (hR : MRel σ s) (hI : SInv s n) : MCi yX2_shelf cX2_shelf 2 (some .int) 6 [] σ (fun z σ' => z = (oShelf s).1 ∧ MRel σ' (oShelf s).2) := by
  intro ad hok hm
  have hpg := PgOk_of hR hI
  have eg : σ.2 0 = sPg s := funext hR.1
  have e1 := hR.2.1
  have e23 := hR.2.2.1
  have e31 := hR.2.2.2.2.2.2.2.1
  have hpn := hI.2.1
  have hsh := hI.2.2.1
  have hn := hI.2.2.2.2.2.2.2
  have hkn := hI.2.2.2.2.2.2.1
  have bad : ¬ PageOk (sPg s) (sPn s) → oShelf s = (-103, s) := fun z => if_neg z
  have gd : PageOk (sPg s) (sPn s) → oShelf s = _ := fun z => if_pos z
  have pg0 := hI.1 0
  have pg1 := hI.1 1
  have pg3 := hI.1 3
  refine Ct.of (by decide) (EL.c1 rfl (EL.nn EL.n0)) (fun Γ h hq hnm => ?_)
  refine v_aload_n (n' := 1) h dX2_shelf_0 rfl rfl ?_
  refine vm_geti (n' := 4) h hm 1 (by decide) q938 dX2_shelf_1 rfl (fun g1 => ?_)
  refine v_iconst (n' := 5) h dX2_shelf_4 rfl ?_
  refine v_icmp_lt (n' := 8) (tgt := 40) h dX2_shelf_5 rfl rfl (by omega) (by omega) (fun c5 => ?_) (fun c5 => ?_)
  · refine v_bipush (n' := 42) h dX2_shelf_40 rfl (by decide) ?_
    refine v_iret h hq dX2_shelf_42 (Nat.le_refl _) (Nat.le_refl _) (ret_mi hm ?_)
    rw [bad (fun z => by have := z.1; omega)]; exact ⟨rfl, hR⟩
  · refine v_aload_n (n' := 9) h dX2_shelf_8 rfl rfl ?_
    refine vm_callI (n' := 12) h hok hm (m_faultOf _ hpg) rfl (lw_V q1104 q1106 qs38 q87 q1107) hdX2_faultOf (by decide) ⟨Nat.zero_le _, Nat.zero_le _⟩ (Nat.le_of_ble_eq_true rfl) dX2_shelf_9 rfl rfl (fun z9 s9 p9 m9 => ?_)
    have pf := p9.1
    have ps := p9.2
    subst ps
    rw [eg, e1] at pf
    have pf3 := pf.1
    have pf4 := pf.2.1
    refine v_aload_n (n' := 13) h dX2_shelf_12 rfl rfl ?_
    refine vm_geti (n' := 16) h m9 1 (by decide) q938 dX2_shelf_13 rfl (fun g13 => ?_)
    refine v_icmp_lt (n' := 19) (tgt := 40) h dX2_shelf_16 rfl rfl (by omega) (by omega) (fun c16 => ?_) (fun c16 => ?_)
    · refine v_bipush (n' := 42) h dX2_shelf_40 rfl (by decide) ?_
      refine v_iret h hq dX2_shelf_42 (Nat.le_refl _) (Nat.le_refl _) (ret_mi m9 ?_)
      rw [bad (fun z => by have := Flt_uniq pf z.2.1; omega)]; exact ⟨rfl, hR⟩
    · refine v_aload_n (n' := 20) h dX2_shelf_19 rfl rfl ?_
      refine vm_geti (n' := 23) h m9 1 (by decide) q938 dX2_shelf_20 rfl (fun g20 => ?_)
      refine v_iconst (n' := 24) h dX2_shelf_23 rfl ?_
      refine v_icmp_le (n' := 27) (tgt := 43) h dX2_shelf_24 rfl rfl (by omega) (by omega) (fun c24 => ?_) (fun c24 => ?_)
      · have ez : z9 = sPn s := by omega
        rw [ez] at pf
        exact m_shelf_43 hok m9 hR hI ⟨by omega, pf, by omega⟩ h hq
      · refine v_aload_n (n' := 28) h dX2_shelf_27 rfl rfl ?_
        refine vm_geti (n' := 31) h m9 1 (by decide) q938 dX2_shelf_28 rfl (fun g28 => ?_)
        refine v_iconst (n' := 32) h dX2_shelf_31 rfl ?_
        refine v_isub (n' := 33) h dX2_shelf_32 rfl ?_
        refine v_bipush (n' := 35) h dX2_shelf_33 rfl (by decide) ?_
        refine v_irem (n' := 36) h dX2_shelf_35 rfl (by omega) (by omega) ?_
        refine v_iconst (n' := 37) h dX2_shelf_36 rfl ?_
        refine v_icmp_eq (n' := 40) (tgt := 43) h dX2_shelf_37 rfl rfl (by omega) (by omega) (fun c37 => ?_) (fun c37 => ?_)
        · have ez : z9 = sPn s := by omega
          rw [ez] at pf
          exact m_shelf_43 hok m9 hR hI ⟨by omega, pf, by omega⟩ h hq
        · refine v_bipush (n' := 42) h dX2_shelf_40 rfl (by decide) ?_
          refine v_iret h hq dX2_shelf_42 (Nat.le_refl _) (Nat.le_refl _) (ret_mi m9 ?_)
          rw [bad (fun z => by have := z.2.2; omega)]; exact ⟨rfl, hR⟩
