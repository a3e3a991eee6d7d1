/-! TREES of entries: a part hung anew; built -/
set_option maxRecDepth 100000
def pa : Tr → Nat → Option Nat → Option Nat
  | .leaf _, _, d => d
  | .branch x l r, k, d => if k = x then d else if k < x then pa l k (some x) else pa r k (some x)
theorem pa_br {x k : Nat} {l r : Tr} {d : Option Nat} : pa (.branch x l r) k d = if k = x then d else if k < x then pa l k (some x) else pa r k (some x) := rfl
theorem pa_in {T : Tr} {k : Nat} (hs : Srt T) (hk : k ∈ tl T) (h0 : ro T ≠ some k) : ∃ p, p ∈ tl T ∧ p ∉ tl (sub T k) ∧ ∀ d, pa T k d = some p := by
  induction T with
  | leaf u => simp [tl] at hk
  | branch x l r ihl ihr =>
    obtain ⟨g1, g2, g3, g4⟩ := srt_br.mp hs
    have c : ¬ k = x := fun e => h0 (by rw [e]; rfl)
    by_cases c2 : k < x
    · have hkl := mem_l hs hk c2
      by_cases cr : ro l = some k
      · refine ⟨x, mem_br.mpr (Or.inr (Or.inl rfl)), fun z => ?_, fun d => ?_⟩
        · rw [sub_br, if_neg c, if_pos c2] at z
          have := g3 x (sub_mem z)
          omega
        · rw [pa_br, if_neg c, if_pos c2]
          cases l with
          | leaf u => cases cr
          | branch y l1 l2 =>
            cases cr
            rw [pa_br, if_pos rfl]
      · obtain ⟨p, p1, p2, p3⟩ := ihl g1 hkl cr
        exact ⟨p, mem_br.mpr (Or.inl p1), by rw [sub_br, if_neg c, if_pos c2]; exact p2, fun d => by rw [pa_br, if_neg c, if_pos c2]; exact p3 _⟩
    · have hkr := mem_r hs hk (by omega)
      by_cases cr : ro r = some k
      · refine ⟨x, mem_br.mpr (Or.inr (Or.inl rfl)), fun z => ?_, fun d => ?_⟩
        · rw [sub_br, if_neg c, if_neg c2] at z
          have := g4 x (sub_mem z)
          omega
        · rw [pa_br, if_neg c, if_neg c2]
          cases r with
          | leaf u => cases cr
          | branch y l1 l2 =>
            cases cr
            rw [pa_br, if_pos rfl]
      · obtain ⟨p, p1, p2, p3⟩ := ihr g2 hkr cr
        exact ⟨p, mem_br.mpr (Or.inr (Or.inr p1)), by rw [sub_br, if_neg c, if_neg c2]; exact p2, fun d => by rw [pa_br, if_neg c, if_neg c2]; exact p3 _⟩
theorem pa_root {T : Tr} {k : Nat} {d : Option Nat} (h0 : ro T = some k) : pa T k d = d := by
  cases T with
  | leaf u => cases h0
  | branch x l r => cases h0; rw [pa_br, if_pos rfl]
theorem gr_rootO {T S : Tr} {k : Nat} (h0 : ro T = some k) : gr T k S = S := by
  cases T with
  | leaf u => cases h0
  | branch x l r => cases h0; rw [gr_br, if_pos rfl]
theorem gr_ro {T S : Tr} {k : Nat} (h0 : ro T ≠ some k) : ro (gr T k S) = ro T := by
  cases T with
  | leaf u => rfl
  | branch x l r =>
    rw [gr_br, if_neg (fun e => h0 (by rw [e]; rfl))]
    split <;> rfl
theorem pa_way {T : Tr} {k : Nat} (hs : Srt T) : ∀ (i y : Nat) (d : Option Nat), (way T k)[i]? = some y → pa T y d = if i = 0 then d else (way T k)[i - 1]? := by
  induction T with
  | leaf u => intro i y d h; simp [way] at h
  | branch x l r ihl ihr =>
    obtain ⟨g1, g2, g3, g4⟩ := srt_br.mp hs
    intro i y d h
    rw [way_br] at h ⊢
    by_cases c : k = x
    · rw [if_pos c] at h ⊢
      cases i with
      | zero =>
        cases h
        rw [pa_br, if_pos rfl, if_pos rfl]
      | succ i => simp at h
    · rw [if_neg c] at h ⊢
      by_cases c2 : k < x
      · rw [if_pos c2] at h ⊢
        cases i with
        | zero =>
          cases h
          rw [pa_br, if_pos rfl, if_pos rfl]
        | succ i =>
          have h : (way l k)[i]? = some y := h
          have hy := g3 y (way_mem (List.mem_of_getElem? h))
          rw [pa_br, if_neg (by omega), if_pos hy, ihl g1 i y _ h, if_neg (show ¬ i + 1 = 0 by omega)]
          cases i with
          | zero => rfl
          | succ i => rw [if_neg (by omega)]; rfl
      · rw [if_neg c2] at h ⊢
        cases i with
        | zero =>
          cases h
          rw [pa_br, if_pos rfl, if_pos rfl]
        | succ i =>
          have h : (way r k)[i]? = some y := h
          have hy := g4 y (way_mem (List.mem_of_getElem? h))
          rw [pa_br, if_neg (by omega), if_neg (by omega), ihr g2 i y _ h, if_neg (show ¬ i + 1 = 0 by omega)]
          cases i with
          | zero => rfl
          | succ i => rw [if_neg (by omega)]; rfl
theorem HT_graft {hp hp' : AH} {W : Nat → Prop} {ad : Nat → Nat} {K U : Nat → Int} {S : Tr} {k : Nat} : ∀ {T : Tr} (d : Option Nat), HT hp W ad K U T → Srt T → k ∈ tl T → HT hp' W ad K U S →
    (∀ x ∈ tl T, x ∉ tl (sub T k) → pa T k d ≠ some x → hp' (ad x) = hp (ad x)) →
    (∀ p ∈ tl T, p ∉ tl (sub T k) → pa T k d = some p → ∃ l r, hp (ad p) = some (eO (K p).toNat p (U p) l r) ∧ hp' (ad p) = some (if l = some (ad k) then eO (K p).toNat p (U p) ((ro S).map ad) r else eO (K p).toNat p (U p) l ((ro S).map ad))) → HT hp' W ad K U (gr T k S) := by
  intro T
  induction T with
  | leaf u => intro d h hs hk; simp [tl] at hk
  | branch x l r ihl ihr =>
    intro d h hs hk hS h1 h2
    obtain ⟨g1, g2, g3, g4⟩ := srt_br.mp hs
    obtain ⟨⟨he, hW, hx, hK⟩, hl, hr⟩ := HT.br.mp h
    rw [gr_br]
    by_cases c : k = x
    · rw [if_pos c]; exact hS
    · rw [if_neg c]
      rw [sub_br, if_neg c, pa_br, if_neg c] at h1 h2
      by_cases c2 : k < x
      · rw [if_pos c2, if_pos c2] at h1 h2
        rw [if_pos c2]
        have hkl := mem_l hs hk c2
        have nx : x ∉ tl (sub l k) := fun z => by have := g3 x (sub_mem z); omega
        have hr' : pa l k (some x) = some x ∨ pa l k (some x) ∈ (tl l).map some := by
          by_cases cr : ro l = some k
          · exact Or.inl (pa_root cr)
          · obtain ⟨p, p1, -, p3⟩ := pa_in g1 hkl cr
            exact Or.inr (by rw [p3]; exact List.mem_map.mpr ⟨p, p1, rfl⟩)
        have HR : HT hp' W ad K U r := hr.frm (fun y hy => h1 y (mem_br.mpr (Or.inr (Or.inr hy))) (fun z => by have := g3 y (sub_mem z); have := g4 y hy; omega) (fun z => by
          have := g4 y hy
          rcases hr' with q | q
          · rw [q] at z; cases z; omega
          · rw [z] at q; obtain ⟨p, p1, p2⟩ := List.mem_map.mp q; cases p2; have := g3 y p1; omega))
        by_cases cr : ro l = some k
        · rw [gr_rootO cr]
          obtain ⟨l1, r1, e1, e2⟩ := h2 x (mem_br.mpr (Or.inr (Or.inl rfl))) nx (pa_root cr)
          rw [he] at e1
          have e1 := congrArg Prod.snd (Sum.inr.inj (Option.some.inj e1))
          simp only [List.cons.injEq, and_true, true_and] at e1
          have el : l1 = some (ad k) := by
            have := e1.1
            rw [cr] at this
            cases l1 with
            | none => cases this
            | some q => cases this; rfl
          rw [if_pos el] at e2
          refine HT.br.mpr ⟨⟨?_, hW, hx, hK⟩, hS, HR⟩
          rw [e2]
          show some (Sum.inr _) = some (Sum.inr _)
          rw [← e1.2]
        · obtain ⟨p, p1, p2, p3⟩ := pa_in g1 hkl cr
          have ex := h1 x (mem_br.mpr (Or.inr (Or.inl rfl))) nx (by rw [p3]; intro z; cases z; have := g3 _ p1; omega)
          refine HT.br.mpr ⟨⟨by rw [ex, gr_ro cr]; exact he, hW, hx, hK⟩, ihl (some x) hl g1 hkl hS (fun y hy => h1 y (mem_br.mpr (Or.inl hy))) (fun y hy => h2 y (mem_br.mpr (Or.inl hy))), HR⟩
      · rw [if_neg c2, if_neg c2] at h1 h2
        rw [if_neg c2]
        have hkr := mem_r hs hk (by omega)
        have nx : x ∉ tl (sub r k) := fun z => by have := g4 x (sub_mem z); omega
        have hr' : pa r k (some x) = some x ∨ pa r k (some x) ∈ (tl r).map some := by
          by_cases cr : ro r = some k
          · exact Or.inl (pa_root cr)
          · obtain ⟨p, p1, -, p3⟩ := pa_in g2 hkr cr
            exact Or.inr (by rw [p3]; exact List.mem_map.mpr ⟨p, p1, rfl⟩)
        have HL : HT hp' W ad K U l := hl.frm (fun y hy => h1 y (mem_br.mpr (Or.inl hy)) (fun z => by have := g4 y (sub_mem z); have := g3 y hy; omega) (fun z => by
          have := g3 y hy
          rcases hr' with q | q
          · rw [q] at z; cases z; omega
          · rw [z] at q; obtain ⟨p, p1, p2⟩ := List.mem_map.mp q; cases p2; have := g4 y p1; omega))
        by_cases cr : ro r = some k
        · rw [gr_rootO cr]
          obtain ⟨l1, r1, e1, e2⟩ := h2 x (mem_br.mpr (Or.inr (Or.inl rfl))) nx (pa_root cr)
          rw [he] at e1
          have e1 := congrArg Prod.snd (Sum.inr.inj (Option.some.inj e1))
          simp only [List.cons.injEq, and_true, true_and] at e1
          have el : ¬ l1 = some (ad k) := by
            intro z
            have q := e1.1
            rw [z] at q
            cases hl0 : ro l with
            | none => rw [hl0] at q; cases q
            | some y =>
              rw [hl0] at q
              have q : ad y = ad k := Value.ref.inj q
              have := hl.inj hr (ro_mem hl0) hkr q
              have := g3 y (ro_mem hl0)
              omega
          rw [if_neg el] at e2
          refine HT.br.mpr ⟨⟨?_, hW, hx, hK⟩, HL, hS⟩
          rw [e2]
          show some (Sum.inr _) = some (Sum.inr _)
          rw [← e1.1]
        · obtain ⟨p, p1, p2, p3⟩ := pa_in g2 hkr cr
          have ex := h1 x (mem_br.mpr (Or.inr (Or.inl rfl))) nx (by rw [p3]; intro z; cases z; have := g4 _ p1; omega)
          refine HT.br.mpr ⟨⟨by rw [ex, gr_ro cr]; exact he, hW, hx, hK⟩, HL, ihr (some x) hr g2 hkr hS (fun y hy => h1 y (mem_br.mpr (Or.inr (Or.inr hy)))) (fun y hy => h2 y (mem_br.mpr (Or.inr (Or.inr hy))))⟩
/-- a tree, its cell and its entries -/
abbrev tC (ad : Nat → Nat) (a b f : Int) (te : Tre) : va_E := tO ((ro te.1).map ad) a b f (tz te.1 : Int) te.2.1 te.2.2.2.2.1 te.2.2.2.2.2 te.2.2.1 te.2.2.2.1
def TT (hp : AH) (W : Nat → Prop) (t : Nat) (ad : Nat → Nat) (K U : Nat → Int) (a b f : Int) (te : Tre) : Prop := hp t = some (tC ad a b f te) ∧ W t ∧ HT hp W ad K U te.1
theorem c_build (de : Nat) (hp : AH) (W : Nat → Prop) (t : Nat) (ad : Nat → Nat) (K U : Nat → Int) (a b f : Int) (te : Tre) (hTT : TT hp W t ad K U a b f te) (hf : Fre W hp) (hs : Srt te.1) (hz : tz te.1 ≤ 48) (hB : TeB te 1000000) (k : Nat) (hk : k ∈ tl te.1) : CtE de yX1_build cX1_build 4 (some .int) (rmK 60 6 132) [.ref t, va_rf ((pa te.1 k none).map ad), .ref (ad k)] hp
    (rI (fun z hp' => z = (tz (sub te.1 k) : Int) ∧ TT hp' W t ad K U a b f (gr te.1 k (flat (sub te.1 k)), te.2.1, te.2.2.1 + 1, te.2.2.2.1 + (tz (sub te.1 k) : Int), payN te.2.2.2.2 (0 - (tz (sub te.1 k) : Int))) ∧ Frm W hp hp')) := by
  obtain ⟨ht, hWt, hT⟩ := hTT
  obtain ⟨T, mo, bu, co, cr, lo⟩ := te
  dsimp only at ht hT hs hz hk ⊢
  obtain ⟨b1, b2, b3, b4, b5⟩ := hB
  dsimp only at b1 b2 b3 b4 b5
  obtain ⟨sl, sr, hsub⟩ := sub_root hs hk
  have hS := hT.sub k
  have hSs := sub_srt (k := k) hs
  have hzs : tz (sub T k) ≤ tz T := sub_len
  have hgt : tl (gr T k (flat (sub T k))) = tl T := gr_tl hs hk (flat_tl _)
  have hgz : tz (gr T k (flat (sub T k))) = tz T := tz_tl hgt
  generalize hN : tz (sub T k) = N at hzs ⊢
  have hroS : (ro (sub T k)).map ad = some (ad k) := by rw [hsub]; rfl
  have hxl : ((tl (sub T k)).map ad).length = N := by rw [List.length_map, tz_len, hN]
  have bC := acB N
  have hgetD : ∀ i, i < N → (tl (sub T k))[i]? = some ((tl (sub T k)).getD i 0) := by
    intro i hi
    have : i < (tl (sub T k)).length := by rw [tz_len, hN]; exact hi
    rw [List.getD_eq_getElem?_getD, List.getElem?_eq_getElem this]
    rfl
  have hmemD : ∀ i, i < N → (tl (sub T k)).getD i 0 ∈ tl (sub T k) := fun i hi => List.mem_of_getElem? (hgetD i hi)
  refine CtE.of (by decide) (EL.c1 rfl (EL.c1 (c1_rf _) (EL.c1 rfl (EL.nn EL.n0)))) (fun Γ h hq hnm hde => ?_)
  have tail : ∀ (w : Nat) (arr : Nat) (hp3 : AH), hp3 t = some (tO ((ro (gr T k (flat (sub T k)))).map ad) a b f (tz T : Int) mo cr lo bu co) → hp3 w = some (lO N N arr) → HT hp3 W ad K U (gr T k (flat (sub T k))) → Frm W hp hp3 → V Γ 6 132 hp3 30 [some (.ref t), some (va_rf ((pa T k none).map ad)), some (.ref (ad k)), some (.ref w)] [] := by
    intro w arr hp3 e1 e2 e3 e4
    have nw : w ≠ t := cell_ne e2 e1 (fun z => by have := congrArg Prod.fst (Sum.inr.inj z); simp at this)
    refine v_aload_n (n' := 31) h dX1_build_30 rfl rfl ?_
    refine v_dup (n' := 32) h dX1_build_31 rfl rfl ?_
    refine v_get (n' := 35) (ci := 1) h rfl in_X1 8 (by decide) q134 rfl dX1_build_32 rfl (by first | assumption | exact upH_s | exact (upH_n (by assumption)).trans (by assumption) | exact (upH_n (by assumption)).trans upH_s | exact (upH_n (by assumption)).trans ((upH_n (by assumption)).trans (by assumption))) (by rfl) ?_
    refine v_iconst (n' := 36) h dX1_build_35 rfl ?_
    refine v_iadd (n' := 37) h dX1_build_36 rfl ?_
    refine v_put (n' := 40) (ci := 1) h rfl in_X1 tyX1 tyX1_ok nmX1 8 (by decide) q134 rfl rfl dX1_build_37 rfl (by first | assumption | exact upH_s | exact (upH_n (by assumption)).trans (by assumption) | exact (upH_n (by assumption)).trans upH_s | exact (upH_n (by assumption)).trans ((upH_n (by assumption)).trans (by assumption))) (by show 8 < 10; decide) rfl rfl ?_
    refine v_aload_n (n' := 41) h dX1_build_40 rfl rfl ?_
    refine v_dup (n' := 42) h dX1_build_41 rfl rfl ?_
    refine v_get (n' := 45) (ci := 1) h rfl in_X1 9 (by decide) q136 rfl dX1_build_42 rfl (by first | assumption | exact upH_s | exact (upH_n (by assumption)).trans (by assumption) | exact (upH_n (by assumption)).trans upH_s | exact (upH_n (by assumption)).trans ((upH_n (by assumption)).trans (by assumption))) (by rfl) ?_
    refine v_aload_n (n' := 46) h dX1_build_45 rfl rfl ?_
    refine vc_callV (n' := 49) (ci := 10) h ((c_size de _ w _ _ arr (by first | assumption | exact (upH_n nw).trans e2)).d hde) rfl (by first | assumption | exact upH_s | exact (upH_n (by assumption)).trans (by assumption) | exact (upH_n (by assumption)).trans upH_s | exact (upH_n (by assumption)).trans ((upH_n (by assumption)).trans (by assumption))) (lw_V q571 q394 q395 q86 q396) hdJ2_size ⟨by omega, by decide⟩ ⟨by omega, by omega⟩ (Nat.le_of_ble_eq_true rfl) dX1_build_46 rfl (eI fun z46 hp46 p46 => ?_) rfl
    obtain ⟨ez46, fz46⟩ := p46
    have ez46 := ez46.symm
    have fz46 := fz46.symm
    subst ez46 fz46
    refine v_iadd (n' := 50) h dX1_build_49 rfl ?_
    refine v_put (n' := 53) (ci := 1) h rfl in_X1 tyX1 tyX1_ok nmX1 9 (by decide) q136 rfl rfl dX1_build_50 rfl (by first | assumption | exact upH_s | exact (upH_n (by assumption)).trans (by assumption) | exact (upH_n (by assumption)).trans upH_s | exact (upH_n (by assumption)).trans ((upH_n (by assumption)).trans (by assumption))) (by show 9 < 10; decide) rfl rfl ?_
    refine v_aload_n (n' := 54) h dX1_build_53 rfl rfl ?_
    refine v_aload_n (n' := 55) h dX1_build_54 rfl rfl ?_
    refine vc_callV (n' := 58) (ci := 10) h ((c_size de _ w _ _ arr (by first | exact (upH_n nw).trans ((upH_n nw).trans e2))).d hde) rfl ((upH_n nw).trans ((upH_n nw).trans e2)) (lw_V q571 q394 q395 q86 q396) hdJ2_size ⟨by omega, by decide⟩ ⟨by omega, by omega⟩ (Nat.le_of_ble_eq_true rfl) dX1_build_55 rfl (eI fun z55 hp55 p55 => ?_) rfl
    obtain ⟨ez55, fz55⟩ := p55
    have ez55 := ez55.symm
    have fz55 := fz55.symm
    subst ez55 fz55
    refine v_ineg (n' := 59) h dX1_build_58 rfl ?_
    refine vc_callV (n' := 62) (ci := 1) h ((c_pay de _ t _ a b f _ mo cr lo (bu + 1) (co + N) (by rw [upH_up]; exact upH_s) (-(N : Int)) (by omega) (by omega) (by omega)).d hde) rfl (by rw [upH_up]; exact upH_s) (lw_V q575 q577 qs13 q83 q578) hdX1_pay ⟨by omega, by decide⟩ ⟨by omega, by omega⟩ (Nat.le_of_ble_eq_true rfl) dX1_build_59 rfl (eV fun hp59 p59 => ?_) rfl
    have p59 := p59.symm
    subst p59
    refine v_aload_n (n' := 63) h dX1_build_62 rfl rfl ?_
    refine vc_callV (n' := 66) (ci := 10) h ((c_size de _ w _ _ arr ((upH_n nw).trans ((upH_n nw).trans ((upH_n nw).trans e2)))).d hde) rfl ((upH_n nw).trans ((upH_n nw).trans ((upH_n nw).trans e2))) (lw_V q571 q394 q395 q86 q396) hdJ2_size ⟨by omega, by decide⟩ ⟨by omega, by omega⟩ (Nat.le_of_ble_eq_true rfl) dX1_build_63 rfl (eI fun z63 hp63 p63 => ?_) rfl
    obtain ⟨ez63, fz63⟩ := p63
    have ez63 := ez63.symm
    have fz63 := fz63.symm
    subst ez63 fz63
    refine v_iret h hq dX1_build_66 (by omega) (by omega) (ret_i ?_)
    refine ⟨rfl, ⟨?_, hWt, ?_⟩, ?_⟩
    · rw [upH_up, upH_up, upH_s]
      show _ = some (tO ((ro (gr T k (flat (sub T k)))).map ad) a b f (tz (gr T k (flat (sub T k))) : Int) mo (payN (cr, lo) (0 - (N : Int))).1 (payN (cr, lo) (0 - (N : Int))).2 (bu + 1) (co + N))
      rw [hgz, show (0 : Int) - (N : Int) = -(N : Int) by omega]
    · refine HT.frm e3 (fun x hx => ?_)
      have hne : ad x ≠ t := by
        obtain ⟨l1, r1, q1, -, -, q4⟩ := e3.at hx
        exact cell_ne q1 e1 (fun z => by have := congrArg Prod.fst (Sum.inr.inj z); simp at this; omega)
      rw [upH_up, upH_up, upH_n hne]
    · rw [upH_up, upH_up]
      exact e4.tr (Frm.up hWt)
  refine v_new (n' := 3) (ci := 10) h rfl in_J2 tyJ2 tyJ2_ok q568 q160 q86 (fs := dvJ2) dvJ2_ok dX1_build_0 rfl (rmC (by omega)) (rmS (by omega)) (fun a0 n0 => ?_)
  refine v_dup (n' := 4) h dX1_build_3 rfl rfl ?_
  refine vc_callI (n' := 7) h ((c_linit de _ a0 upH_s).d hde) q163 q86 q569 q162 rfl hdJ2_init ⟨by omega, by decide⟩ ⟨by omega, by omega⟩ (Nat.le_of_ble_eq_true rfl) dX1_build_4 rfl (eV fun hp4 p4 => ?_) rfl
  subst p4
  rw [upH_up]
  have nt : t ≠ a0 := free_ne ht n0
  have F0 : Frm (Fsh hp) hp (upH hp a0 (lO 0 0 de)) := Frm.up n0
  have c10 := c_collect de (Fsh hp) W ad K U a0 (sub T k) (upH hp a0 (lO 0 0 de)) [] (hS.ex (fun q e => F0.ex)) (fun x hx => by obtain ⟨l1, r1, q1, -⟩ := hS.at hx; exact Fsh.no q1) ⟨de, upH_s, n0, Or.inl ⟨rfl, rfl⟩⟩ (F0.fre Fre.sh) ⟨fun y hy => (by simp at hy), fun y hy => (by simp at hy)⟩ (by simp; omega) 48 (by omega) (by omega)
  rw [hroS, hN] at c10
  simp only [List.length_nil, Nat.zero_add, List.nil_append] at c10
  have a00 : acC 0 = 0 ∧ acS 0 = 0 := by decide
  rw [a00.1, a00.2] at c10
  refine v_astore3 (n' := 8) h dX1_build_7 rfl rfl ?_
  refine v_aload_n (n' := 9) h dX1_build_8 rfl rfl ?_
  refine v_aload_n (n' := 10) h dX1_build_9 rfl rfl ?_
  refine vc_callS (n' := 13) h ((c10).d hde) (lw_S q596 q597 q83 q598) hdX1_collect ⟨by omega, by decide⟩ ⟨by omega, by omega⟩ (Nat.le_of_ble_eq_true rfl) dX1_build_10 rfl (eV fun hp10 p10 => ?_) rfl
  obtain ⟨L10, F10⟩ := p10
  have F10 := F0.tr F10
  refine V.widen (k2 := 6) (n2 := 132) (by omega) (by omega) ?_
  obtain ⟨arr, hw10⟩ := L10.len
  rw [hxl] at hw10
  have hS10 : HT hp10 W ad K U (sub T k) := hS.ex (fun q e => F10.ex)
  have c24 := c_flat de (Fsh hp) W ad K U a0 ((tl (sub T k)).map ad) (fun i => (tl (sub T k)).getD i 0) (fun i hi => by rw [hxl] at hi; rw [List.getElem?_map, hgetD i hi]; rfl) (by omega) (fun i j hi hj e => by
    rw [hxl] at hi hj
    have e := hS.inj hS (hmemD i hi) (hmemD j hj) e
    have hnd := srt_nodup hSs
    have h1 := hgetD i hi
    have h2 := hgetD j hj
    rw [← e] at h2
    exact (List.getElem?_inj (by rw [tz_len, hN]; exact hi) hnd).mp (h1.trans h2.symm)) (fun i hi => by
    rw [hxl] at hi
    obtain ⟨l1, r1, q1, q2, q3, q4⟩ := hS.at (hmemD i hi)
    exact ⟨q2, q3, q4⟩) N N 0 hp10 (by omega) (by omega) L10 (fun i hi => by
    rw [hxl] at hi
    obtain ⟨l1, r1, q1, -⟩ := hS10.at (hmemD i hi)
    exact ⟨l1, r1, q1⟩)
  have efl : fl N (fun i => (tl (sub T k)).getD i 0) 0 N = flat (sub T k) := by unfold flat; rw [hN]
  rw [efl] at c24
  refine v_aload_n (n' := 14) h dX1_build_13 rfl rfl ?_
  refine v_aload_nQ (n' := 15) h dX1_build_14 rfl rfl ?_
  refine v_aload_n (n' := 16) h dX1_build_15 rfl rfl ?_
  refine v_aload_n (n' := 17) h dX1_build_16 rfl rfl ?_
  refine v_iconst (n' := 18) h dX1_build_17 rfl ?_
  refine v_aload_n (n' := 19) h dX1_build_18 rfl rfl ?_
  refine vc_callV (n' := 22) (ci := 10) h ((c_size de hp10 a0 _ _ arr hw10).d hde) rfl (by first | assumption | exact upH_s | exact (upH_n (by assumption)).trans (by assumption) | exact (upH_n (by assumption)).trans upH_s | exact (upH_n (by assumption)).trans ((upH_n (by assumption)).trans (by assumption))) (lw_V q571 q394 q395 q86 q396) hdJ2_size ⟨by omega, by decide⟩ ⟨by omega, by omega⟩ (by simp only [List.map_cons, c1_rf]; exact Nat.le_of_ble_eq_true rfl) dX1_build_19 rfl (eI fun z19 hp19 p19 => ?_) rfl
  obtain ⟨ez19, fz19⟩ := p19
  have ez19 := ez19.symm
  have fz19 := fz19.symm
  subst ez19 fz19
  refine v_iconst (n' := 23) h dX1_build_22 rfl ?_
  refine v_isub (n' := 24) h dX1_build_23 rfl ?_
  rw [show (N : Int) - 1 = ((0 : Nat) : Int) + (N : Int) - 1 by omega]
  refine vc_callS (n' := 27) h ((c24).d hde) (lw_S q599 q600 q83 q601) hdX1_flat ⟨by omega, by decide⟩ ⟨by omega, by omega⟩ (by simp only [List.map_cons, c1_rf]; exact Nat.le_of_ble_eq_true rfl) dX1_build_24 rfl (eQ fun z24 hp24 p24 => ?_) rfl
  obtain ⟨e24, T24, F24⟩ := p24
  subst e24
  have F24' : ∀ q c, hp10 q = some c → (∀ x ∈ tl (sub T k), q ≠ ad x) → hp24 q = some c := fun q c hq hx => (F24 q (fun i _ hi => hx _ (hmemD i (by omega)))).trans hq
  have ht24 : hp24 t = some (tO ((ro T).map ad) a b f (tz T : Int) mo cr lo bu co) := F24' t _ (F10.ex ht) (fun x hx z => by
    obtain ⟨l1, r1, q1, -, -, q4⟩ := hS.at hx
    rw [← z, ht] at q1
    have := congrArg Prod.fst (Sum.inr.inj (Option.some.inj q1))
    simp at this
    omega)
  have hw24 : hp24 a0 = some (lO N N arr) := F24' a0 _ hw10 (fun x hx z => by
    obtain ⟨l1, r1, q1, -⟩ := hS.at hx
    rw [← z, n0] at q1
    cases q1)
  have FW : Frm W hp hp24 := by
    intro q hq
    have hq0 : hp q ≠ none := fun z => hq (hf q z)
    rw [F24 q (fun i _ hi z => hq (by rw [z]; obtain ⟨l1, r1, q1, q2, -⟩ := hS.at (hmemD i (by omega)); exact q2))]
    exact F10 q hq0
  cases hpa : pa T k none with
  | none =>
    have hro : ro T = some k := by
      apply Classical.byContradiction
      intro c
      obtain ⟨p, -, -, p3⟩ := pa_in hs hk c
      rw [p3] at hpa
      cases hpa
    rw [hpa] at tail
    show V Γ 6 132 hp24 27 [some (.ref t), some .null, some (.ref (ad k)), some (.ref a0)] [va_rf ((ro (flat (sub T k))).map ad), .ref (ad k), .null, .ref t]
    refine vc_callV (n' := 30) (ci := 1) h ((c_hangT de hp24 t _ (some (ad k)) ((ro (flat (sub T k))).map ad) a b f _ mo cr lo bu co ht24).d hde) rfl ht24 (lw_V q602 q604 qs15 q83 q605) hdX1_hang ⟨by omega, by decide⟩ ⟨by omega, by omega⟩ (Nat.le_of_ble_eq_true rfl) dX1_build_27 rfl (eV fun hp27 p27 => ?_) rfl
    subst p27
    have nwt : a0 ≠ t := fun z => nt z.symm
    refine tail a0 arr _ (by rw [gr_rootO hro]; exact upH_s) ((upH_n nwt).trans hw24) ?_ (FW.tr (Frm.up hWt))
    rw [gr_rootO hro]
    refine T24.frm (fun x hx => upH_n (fun z => ?_))
    obtain ⟨l1, r1, q1, -, -, q4⟩ := T24.at hx
    rw [z, ht24] at q1
    have := congrArg Prod.fst (Sum.inr.inj (Option.some.inj q1))
    simp at this
    omega
  | some p =>
    have hro : ro T ≠ some k := fun z => by rw [pa_root z] at hpa; cases hpa
    obtain ⟨p', p1, p2, p3⟩ := pa_in hs hk hro
    obtain rfl : p' = p := by rw [p3] at hpa; cases hpa; rfl
    rw [hpa] at tail
    obtain ⟨l1, r1, q1, q2, q3, q4⟩ := hT.at p1
    have nin : ∀ x ∈ tl T, x ∉ tl (sub T k) → ∀ y ∈ tl (sub T k), ad x ≠ ad y := fun x hx hn y hy z => hn (by rw [hT.inj hS hx hy z]; exact hy)
    have q24 := F24' _ _ (F10.ex q1) (nin p' p1 p2)
    show V Γ 6 132 hp24 27 [some (.ref t), some (.ref (ad p')), some (.ref (ad k)), some (.ref a0)] [va_rf ((ro (flat (sub T k))).map ad), .ref (ad k), .ref (ad p'), .ref t]
    refine vc_callV (n' := 30) (ci := 1) h ((c_hangE de hp24 t (ad p') (K p').toNat p' (U p') l1 r1 (some (ad k)) ((ro (flat (sub T k))).map ad) (by omega) q24).d hde) rfl ht24 (lw_V q602 q604 qs15 q83 q605) hdX1_hang ⟨by omega, by decide⟩ ⟨by omega, by omega⟩ (Nat.le_of_ble_eq_true rfl) dX1_build_27 rfl (eV fun hp27 p27 => ?_) rfl
    subst p27
    have ntp : t ≠ ad p' := cell_ne ht24 q24 (fun z => by have := congrArg Prod.fst (Sum.inr.inj z); simp at this; omega)
    have nwp : a0 ≠ ad p' := fun z => by rw [← z, n0] at q1; cases q1
    refine tail a0 arr _ ((upH_n ntp).trans (by rw [gr_ro hro]; exact ht24)) ((upH_n nwp).trans hw24) ?_ (FW.tr (Frm.up q2))
    refine HT_graft none hT hs hk (T24.frm (fun x hx => upH_n (fun z => ?_))) (fun x hx hn hpx => ?_) (fun x hx hn hpx => ?_)
    · rw [flat_tl] at hx
      exact nin p' p1 p2 x hx z.symm
    · obtain ⟨l2, r2, q5, -⟩ := hT.at hx
      rw [upH_n (fun z => hpx (by rw [p3]; exact congrArg some (hT.inj hT p1 hx z.symm)))]
      rw [F24' _ _ (F10.ex q5) (nin x hx hn), q5]
    · rw [p3] at hpx
      cases hpx
      exact ⟨l1, r1, q1, upH_s⟩
