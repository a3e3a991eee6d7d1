/-! TREES of entries on the heap: what is read -/
set_option maxRecDepth 100000
def HT (hp : AH) (W : Nat → Prop) (ad : Nat → Nat) (K U : Nat → Int) : Tr → Prop
  | .leaf _ => True
  | .branch k l r => (hp (ad k) = some (eO (K k).toNat k (U k) ((ro l).map ad) ((ro r).map ad)) ∧ W (ad k) ∧ k < 100 ∧ (0 ≤ K k ∧ K k ≤ 4)) ∧ HT hp W ad K U l ∧ HT hp W ad K U r
section HT
variable {hp hp' : AH} {W W' : Nat → Prop} {ad ad' : Nat → Nat} {K U K' U' : Nat → Int}
theorem HT.br {k : Nat} {l r : Tr} : HT hp W ad K U (.branch k l r) ↔ (hp (ad k) = some (eO (K k).toNat k (U k) ((ro l).map ad) ((ro r).map ad)) ∧ W (ad k) ∧ k < 100 ∧ (0 ≤ K k ∧ K k ≤ 4)) ∧ HT hp W ad K U l ∧ HT hp W ad K U r := Iff.rfl
theorem ro_map {T : Tr} (h : ∀ x ∈ tl T, ad' x = ad x) : (ro T).map ad' = (ro T).map ad := by
  cases T with
  | leaf u => rfl
  | branch k l r => exact congrArg some (h k (mem_br.mpr (Or.inr (Or.inl rfl))))
theorem HT.cg {T : Tr} (h : HT hp W ad K U T) (e : ∀ x ∈ tl T, ad' x = ad x ∧ K' x = K x ∧ U' x = U x ∧ hp' (ad x) = hp (ad x) ∧ (W (ad x) → W' (ad x))) : HT hp' W' ad' K' U' T := by
  induction T with
  | leaf u => trivial
  | branch k l r ihl ihr =>
    obtain ⟨⟨h1, h2, h3, h4⟩, h5, h6⟩ := HT.br.mp h
    have el : ∀ x ∈ tl l, _ := fun x hx => e x (mem_br.mpr (Or.inl hx))
    have er : ∀ x ∈ tl r, _ := fun x hx => e x (mem_br.mpr (Or.inr (Or.inr hx)))
    obtain ⟨e1, e2, e3, e4, e5⟩ := e k (mem_br.mpr (Or.inr (Or.inl rfl)))
    refine HT.br.mpr ⟨⟨?_, by rw [e1]; exact e5 h2, h3, by rw [e2]; exact h4⟩, ihl h5 el, ihr h6 er⟩
    rw [e1, e2, e3, ro_map (fun x hx => (el x hx).1), ro_map (fun x hx => (er x hx).1), e4]
    exact h1
theorem HT.frm {T : Tr} (h : HT hp W ad K U T) (e : ∀ x ∈ tl T, hp' (ad x) = hp (ad x)) : HT hp' W ad K U T := h.cg (fun x hx => ⟨rfl, rfl, rfl, e x hx, id⟩)
theorem HT.ex {T : Tr} (h : HT hp W ad K U T) (e : ∀ q c, hp q = some c → hp' q = some c) : HT hp' W ad K U T := by
  induction T with
  | leaf u => trivial
  | branch k l r ihl ihr =>
    obtain ⟨⟨h1, h2⟩, h5, h6⟩ := HT.br.mp h
    exact HT.br.mpr ⟨⟨e _ _ h1, h2⟩, ihl h5, ihr h6⟩
theorem HT.at {T : Tr} (h : HT hp W ad K U T) {x : Nat} (hx : x ∈ tl T) : ∃ l r : Option Nat, hp (ad x) = some (eO (K x).toNat x (U x) l r) ∧ W (ad x) ∧ x < 100 ∧ (0 ≤ K x ∧ K x ≤ 4) := by
  induction T with
  | leaf u => simp [tl] at hx
  | branch k l r ihl ihr =>
    obtain ⟨h1, h5, h6⟩ := HT.br.mp h
    rcases mem_br.mp hx with hx | rfl | hx
    · exact ihl h5 hx
    · exact ⟨_, _, h1⟩
    · exact ihr h6 hx
theorem HT.sub {T : Tr} (h : HT hp W ad K U T) (k : Nat) : HT hp W ad K U (sub T k) := by
  induction T with
  | leaf u => exact h
  | branch x l r ihl ihr =>
    obtain ⟨h1, h5, h6⟩ := HT.br.mp h
    rw [sub_br]
    split
    · exact h
    · split
      · exact ihl h5
      · exact ihr h6
theorem eO_key {kd kd' : Nat} {x y v v' : Int} {l r l' r' : Option Nat} (hx : 0 ≤ x ∧ x < 100) (hy : 0 ≤ y ∧ y < 100) (h : eO kd x v l r = eO kd' y v' l' r') : x = y := by
  have h1 := congrArg Prod.snd (Sum.inr.inj h)
  simp only [List.cons.injEq, Value.int.injEq] at h1
  exact (iI_eq (by omega) (by omega)).mp h1.1
theorem HT.inj {T S : Tr} (h : HT hp W ad K U T) (h' : HT hp W' ad' K' U' S) {x y : Nat} (hx : x ∈ tl T) (hy : y ∈ tl S) (e : ad x = ad' y) : x = y := by
  obtain ⟨l, r, h1, -, h3, -⟩ := h.at hx
  obtain ⟨l', r', h1', -, h3', -⟩ := h'.at hy
  rw [e] at h1
  have := eO_key (by omega) (by omega) (Option.some.inj (h1.symm.trans h1'))
  omega
theorem HT.en {T : Tr} (h : HT hp W ad K U T) {xs : List Nat} (hx : ∀ x ∈ xs, x ∈ tl T) : En hp (xs.map ad) := by
  intro y hy
  obtain ⟨x, hx1, rfl⟩ := List.mem_map.mp hy
  obtain ⟨l, r, h1, -, -, h4⟩ := h.at (hx x hx1)
  exact ⟨_, _, by omega, h1⟩
end HT
theorem th_r (T : Tr) : -1 ≤ th T ∧ th T < (tz T : Int) := by
  induction T with
  | leaf u => simp [th, tz]
  | branch k l r ihl ihr =>
    simp only [th, tz]
    split <;> omega
theorem c_sizeOf (de : Nat) (hp : AH) (W : Nat → Prop) (ad : Nat → Nat) (K U : Nat → Int) : ∀ (T : Tr), HT hp W ad K U T → ∀ d, tz T ≤ d → d ≤ 1000 → CtE de yX0_sizeOf cX0_sizeOf 1 (some .int) (rmK (d + 1) 0 0) [va_rf ((ro T).map ad)] hp (rI (fun z hp' => z = (tz T : Int) ∧ hp' = hp)) := by
  intro T
  induction T with
  | leaf u =>
    intro hT d hd hd2
    show CtE de yX0_sizeOf cX0_sizeOf 1 (some .int) (rmK (d + 1) 0 0) [.null] hp _
    refine CtE.of (by decide) (EL.c1 rfl EL.n0) (fun Γ h hq hnm hde => ?_)
    refine v_aload_nN (n' := 1) h dX0_sizeOf_0 rfl rfl ?_
    refine v_ifnonnullZ (n' := 4) h dX0_sizeOf_1 rfl ?_
    refine v_iconst (n' := 5) h dX0_sizeOf_4 rfl ?_
    refine v_goto (tgt := 25) h dX0_sizeOf_5 rfl ?_
    refine v_iret h hq dX0_sizeOf_25 (by omega) (by omega) (ret_i ?_)
    exact ⟨rfl, rfl⟩
  | branch k l r ihl ihr =>
    intro hT d hd hd2
    obtain ⟨⟨he, hW, hk, hK⟩, hl, hr⟩ := HT.br.mp hT
    simp only [tz] at hd
    obtain ⟨d, rfl⟩ : ∃ e, d = e + 1 := ⟨d - 1, by omega⟩
    show CtE de yX0_sizeOf cX0_sizeOf 1 (some .int) (rmK (d + 1 + 1) 0 0) [.ref (ad k)] hp _
    refine CtE.of (by decide) (EL.c1 rfl EL.n0) (fun Γ h hq hnm hde => ?_)
    refine v_aload_n (n' := 1) h dX0_sizeOf_0 rfl rfl ?_
    refine v_ifnonnullR (tgt := 8) h dX0_sizeOf_1 rfl ?_
    refine v_iconst (n' := 9) h dX0_sizeOf_8 rfl ?_
    refine v_aload_n (n' := 10) h dX0_sizeOf_9 rfl rfl ?_
    refine v_eleft (n' := 13) h q429 dX0_sizeOf_10 rfl (by first | assumption | exact upH_s | exact (upH_n (by assumption)).trans (by assumption) | exact (upH_n (by assumption)).trans upH_s | exact (upH_n (by assumption)).trans ((upH_n (by assumption)).trans (by assumption))) (by omega) ?_
    refine vc_callS (n' := 16) h ((ihl hl d (by omega) (by omega)).d hde) (lw_S q591 q589 q82 q590) hdX0_sizeOf ⟨by omega, by decide⟩ ⟨by omega, by omega⟩ (Nat.le_of_ble_eq_true rfl) dX0_sizeOf_13 rfl (eI fun z13 hp13 p13 => ?_) rfl
    obtain ⟨ez13, fz13⟩ := p13
    have ez13 := ez13.symm
    have fz13 := fz13.symm
    subst ez13 fz13
    refine v_iadd (n' := 17) h dX0_sizeOf_16 rfl ?_
    refine v_aload_n (n' := 18) h dX0_sizeOf_17 rfl rfl ?_
    refine v_eright (n' := 21) h q431 dX0_sizeOf_18 rfl (by first | assumption | exact upH_s | exact (upH_n (by assumption)).trans (by assumption) | exact (upH_n (by assumption)).trans upH_s | exact (upH_n (by assumption)).trans ((upH_n (by assumption)).trans (by assumption))) (by omega) ?_
    refine vc_callS (n' := 24) h ((ihr hr d (by omega) (by omega)).d hde) (lw_S q591 q589 q82 q590) hdX0_sizeOf ⟨by omega, by decide⟩ ⟨by omega, by omega⟩ (Nat.le_of_ble_eq_true rfl) dX0_sizeOf_21 rfl (eI fun z21 hp21 p21 => ?_) rfl
    obtain ⟨ez21, fz21⟩ := p21
    have ez21 := ez21.symm
    have fz21 := fz21.symm
    subst ez21 fz21
    refine v_iadd (n' := 25) h dX0_sizeOf_24 rfl ?_
    refine v_iret h hq dX0_sizeOf_25 (by omega) (by omega) (ret_i ?_)
    exact ⟨by simp only [tz]; omega, rfl⟩
theorem c_tallOf (de : Nat) (hp : AH) (W : Nat → Prop) (ad : Nat → Nat) (K U : Nat → Int) : ∀ (T : Tr), HT hp W ad K U T → ∀ d, tz T ≤ d → d ≤ 1000 → CtE de yX0_tallOf cX0_tallOf 1 (some .int) (rmK (d + 2) 0 0) [va_rf ((ro T).map ad)] hp (rI (fun z hp' => z = th T ∧ hp' = hp)) := by
  intro T
  induction T with
  | leaf u =>
    intro hT d hd hd2
    show CtE de yX0_tallOf cX0_tallOf 1 (some .int) (rmK (d + 2) 0 0) [.null] hp _
    refine CtE.of (by decide) (EL.c1 rfl EL.n0) (fun Γ h hq hnm hde => ?_)
    refine v_aload_nN (n' := 1) h dX0_tallOf_0 rfl rfl ?_
    refine v_ifnonnullZ (n' := 4) h dX0_tallOf_1 rfl ?_
    refine v_iconst (n' := 5) h dX0_tallOf_4 rfl ?_
    refine v_goto (tgt := 27) h dX0_tallOf_5 rfl ?_
    refine v_iret h hq dX0_tallOf_27 (by omega) (by omega) (ret_i ?_)
    exact ⟨rfl, rfl⟩
  | branch k l r ihl ihr =>
    intro hT d hd hd2
    obtain ⟨⟨he, hW, hk, hK⟩, hl, hr⟩ := HT.br.mp hT
    simp only [tz] at hd
    have b1 := th_r l
    have b2 := th_r r
    obtain ⟨d, rfl⟩ : ∃ e, d = e + 1 := ⟨d - 1, by omega⟩
    show CtE de yX0_tallOf cX0_tallOf 1 (some .int) (rmK (d + 1 + 2) 0 0) [.ref (ad k)] hp _
    refine CtE.of (by decide) (EL.c1 rfl EL.n0) (fun Γ h hq hnm hde => ?_)
    refine v_aload_n (n' := 1) h dX0_tallOf_0 rfl rfl ?_
    refine v_ifnonnullR (tgt := 8) h dX0_tallOf_1 rfl ?_
    refine v_iconst (n' := 9) h dX0_tallOf_8 rfl ?_
    refine v_aload_n (n' := 10) h dX0_tallOf_9 rfl rfl ?_
    refine v_eleft (n' := 13) h q429 dX0_tallOf_10 rfl (by first | assumption | exact upH_s | exact (upH_n (by assumption)).trans (by assumption) | exact (upH_n (by assumption)).trans upH_s | exact (upH_n (by assumption)).trans ((upH_n (by assumption)).trans (by assumption))) (by omega) ?_
    refine vc_callS (n' := 16) h ((ihl hl d (by omega) (by omega)).d hde) (lw_S q779 q780 q82 q781) hdX0_tallOf ⟨by omega, by decide⟩ ⟨by omega, by omega⟩ (Nat.le_of_ble_eq_true rfl) dX0_tallOf_13 rfl (eI fun z13 hp13 p13 => ?_) rfl
    obtain ⟨ez13, fz13⟩ := p13
    have ez13 := ez13.symm
    have fz13 := fz13.symm
    subst ez13 fz13
    refine v_aload_n (n' := 17) h dX0_tallOf_16 rfl rfl ?_
    refine v_eright (n' := 20) h q431 dX0_tallOf_17 rfl (by first | assumption | exact upH_s | exact (upH_n (by assumption)).trans (by assumption) | exact (upH_n (by assumption)).trans upH_s | exact (upH_n (by assumption)).trans ((upH_n (by assumption)).trans (by assumption))) (by omega) ?_
    refine vc_callS (n' := 23) h ((ihr hr d (by omega) (by omega)).d hde) (lw_S q779 q780 q82 q781) hdX0_tallOf ⟨by omega, by decide⟩ ⟨by omega, by omega⟩ (Nat.le_of_ble_eq_true rfl) dX0_tallOf_20 rfl (eI fun z20 hp20 p20 => ?_) rfl
    obtain ⟨ez20, fz20⟩ := p20
    have ez20 := ez20.symm
    have fz20 := fz20.symm
    subst ez20 fz20
    refine v_mmax (n' := 26) h q782 q502 q92 q503 (rm1 (by omega)) (Nat.le_of_ble_eq_true rfl) (rmC (by omega)) (rmS (by omega)) dX0_tallOf_23 rfl (by omega) (by omega) ?_
    refine v_iadd (n' := 27) h dX0_tallOf_26 rfl ?_
    refine v_iret h hq dX0_tallOf_27 (by omega) (by omega) (ret_i ?_)
    exact ⟨by simp only [th]; unfold mx; split <;> split <;> omega, rfl⟩
theorem lessN_br {k x : Nat} {l r : Tr} : lessN (.branch x l r) k = lessN l k + lessN r k + (if x < k then 1 else 0) := by
  unfold lessN
  rw [tl_br, List.filter_append, List.length_append, List.filter_cons]
  by_cases c : x < k
  · simp [c]; omega
  · simp [c]
theorem lessN_r (T : Tr) (k : Nat) : 0 ≤ lessN T k ∧ lessN T k ≤ (tz T : Int) := by
  unfold lessN
  have := List.length_filter_le (fun x => decide (x < k)) (tl T)
  rw [tz_len] at this
  omega
theorem c_lessThan (de : Nat) (hp : AH) (W : Nat → Prop) (ad : Nat → Nat) (K U : Nat → Int) (a : Nat) (fs : List Value) (ha : hp a = some (.inr (0, fs))) (key : Nat) (hkey : key < 100) : ∀ (T : Tr), HT hp W ad K U T → ∀ d, tz T ≤ d → d ≤ 1000 → CtE de yX0_lessThan cX0_lessThan 3 (some .int) (rmK (d + 1) 0 0) [.ref a, va_rf ((ro T).map ad), .int (iI key)] hp (rI (fun z hp' => z = lessN T key ∧ hp' = hp)) := by
  intro T
  induction T with
  | leaf u =>
    intro hT d hd hd2
    show CtE de yX0_lessThan cX0_lessThan 3 (some .int) (rmK (d + 1) 0 0) [.ref a, .null, .int (iI key)] hp _
    refine CtE.of (by decide) (EL.c1 rfl (EL.c1 rfl (EL.c1 rfl EL.n0))) (fun Γ h hq hnm hde => ?_)
    refine v_aload_nN (n' := 1) h dX0_lessThan_0 rfl rfl ?_
    refine v_ifnonnullZ (n' := 4) h dX0_lessThan_1 rfl ?_
    refine v_iconst (n' := 5) h dX0_lessThan_4 rfl ?_
    refine v_goto (tgt := 41) h dX0_lessThan_5 rfl ?_
    refine v_iret h hq dX0_lessThan_41 (by omega) (by omega) (ret_i ?_)
    exact ⟨rfl, rfl⟩
  | branch k l r ihl ihr =>
    intro hT d hd hd2
    obtain ⟨⟨he, hW, hk, hK⟩, hl, hr⟩ := HT.br.mp hT
    simp only [tz] at hd
    have b1 := lessN_r l key
    have b2 := lessN_r r key
    obtain ⟨d, rfl⟩ : ∃ e, d = e + 1 := ⟨d - 1, by omega⟩
    show CtE de yX0_lessThan cX0_lessThan 3 (some .int) (rmK (d + 1 + 1) 0 0) [.ref a, .ref (ad k), .int (iI key)] hp _
    refine CtE.of (by decide) (EL.c1 rfl (EL.c1 rfl (EL.c1 rfl EL.n0))) (fun Γ h hq hnm hde => ?_)
    refine v_aload_n (n' := 1) h dX0_lessThan_0 rfl rfl ?_
    refine v_ifnonnullR (tgt := 8) h dX0_lessThan_1 rfl ?_
    refine v_aload_n (n' := 9) h dX0_lessThan_8 rfl rfl ?_
    refine v_aload_n (n' := 10) h dX0_lessThan_9 rfl rfl ?_
    refine v_eleft (n' := 13) h q429 dX0_lessThan_10 rfl (by first | assumption | exact upH_s | exact (upH_n (by assumption)).trans (by assumption) | exact (upH_n (by assumption)).trans upH_s | exact (upH_n (by assumption)).trans ((upH_n (by assumption)).trans (by assumption))) (by omega) ?_
    refine v_iload_n (n' := 14) h dX0_lessThan_13 rfl rfl ?_
    refine vc_callV (n' := 17) (ci := 0) h ((ihl hl d (by omega) (by omega)).d hde) rfl (by first | assumption | exact upH_s | exact (upH_n (by assumption)).trans (by assumption) | exact (upH_n (by assumption)).trans upH_s | exact (upH_n (by assumption)).trans ((upH_n (by assumption)).trans (by assumption))) (lw_V q644 q646 qs19 q82 q647) hdX0_lessThan ⟨by omega, by decide⟩ ⟨by omega, by omega⟩ (Nat.le_of_ble_eq_true rfl) dX0_lessThan_14 rfl (eI fun z14 hp14 p14 => ?_) rfl
    obtain ⟨ez14, fz14⟩ := p14
    have ez14 := ez14.symm
    have fz14 := fz14.symm
    subst ez14 fz14
    refine v_aload_n (n' := 18) h dX0_lessThan_17 rfl rfl ?_
    refine v_aload_n (n' := 19) h dX0_lessThan_18 rfl rfl ?_
    refine v_eright (n' := 22) h q431 dX0_lessThan_19 rfl (by first | assumption | exact upH_s | exact (upH_n (by assumption)).trans (by assumption) | exact (upH_n (by assumption)).trans upH_s | exact (upH_n (by assumption)).trans ((upH_n (by assumption)).trans (by assumption))) (by omega) ?_
    refine v_iload_n (n' := 23) h dX0_lessThan_22 rfl rfl ?_
    refine vc_callV (n' := 26) (ci := 0) h ((ihr hr d (by omega) (by omega)).d hde) rfl (by first | assumption | exact upH_s | exact (upH_n (by assumption)).trans (by assumption) | exact (upH_n (by assumption)).trans upH_s | exact (upH_n (by assumption)).trans ((upH_n (by assumption)).trans (by assumption))) (lw_V q644 q646 qs19 q82 q647) hdX0_lessThan ⟨by omega, by decide⟩ ⟨by omega, by omega⟩ (Nat.le_of_ble_eq_true rfl) dX0_lessThan_23 rfl (eI fun z23 hp23 p23 => ?_) rfl
    obtain ⟨ez23, fz23⟩ := p23
    have ez23 := ez23.symm
    have fz23 := fz23.symm
    subst ez23 fz23
    refine v_iadd (n' := 27) h dX0_lessThan_26 rfl ?_
    refine v_aload_n (n' := 28) h dX0_lessThan_27 rfl rfl ?_
    refine v_ekey (n' := 31) h q425 dX0_lessThan_28 rfl (by first | assumption | exact upH_s | exact (upH_n (by assumption)).trans (by assumption) | exact (upH_n (by assumption)).trans upH_s | exact (upH_n (by assumption)).trans ((upH_n (by assumption)).trans (by assumption))) (by omega) ?_
    refine v_iload_n (n' := 32) h dX0_lessThan_31 rfl rfl ?_
    refine v_icmp_ge (n' := 35) (tgt := 39) h dX0_lessThan_32 rfl rfl (by omega) (by omega) (fun c32 => ?_) (fun c32 => ?_)
    · refine v_iconst (n' := 40) h dX0_lessThan_39 rfl ?_
      refine v_iadd (n' := 41) h dX0_lessThan_40 rfl ?_
      refine v_iret h hq dX0_lessThan_41 (by omega) (by omega) (ret_i ?_)
      exact ⟨by rw [lessN_br, if_neg (by omega)], rfl⟩
    · refine v_iconst (n' := 36) h dX0_lessThan_35 rfl ?_
      refine v_goto (tgt := 40) h dX0_lessThan_36 rfl ?_
      refine v_iadd (n' := 41) h dX0_lessThan_40 rfl ?_
      refine v_iret h hq dX0_lessThan_41 (by omega) (by omega) (ret_i ?_)
      exact ⟨by rw [lessN_br, if_pos (by omega)], rfl⟩
/-! a tree's own cell -/
abbrev tO (top : Option Nat) (a b f m s c l g k : Int) : va_E := .inr (1, [va_rf top, .int (iI a), .int (iI b), .int (iI f), .int (iI m), .int (iI s), .int (iI c), .int (iI l), .int (iI g), .int (iI k)])
def fnd (T : Tr) (z : Int) : Option Nat := if 0 ≤ z ∧ z.toNat ∈ tl T then some z.toNat else none
theorem fnd_leaf (u : Unit) (z : Int) : fnd (.leaf u) z = none := by unfold fnd; simp [tl]
theorem fnd_br {x : Nat} {l r : Tr} {z : Int} (hs : Srt (.branch x l r)) : fnd (.branch x l r) z = if z = x then some x else if z < x then fnd l z else fnd r z := by
  obtain ⟨h1, h2, h3, h4⟩ := srt_br.mp hs
  unfold fnd
  by_cases c : z = x
  · rw [if_pos c, if_pos ⟨by omega, by rw [c]; exact mem_br.mpr (Or.inr (Or.inl rfl))⟩, c]
    rfl
  · rw [if_neg c]
    by_cases c2 : z < x
    · rw [if_pos c2]
      by_cases c0 : 0 ≤ z
      · by_cases c3 : z.toNat ∈ tl l
        · rw [if_pos ⟨c0, mem_br.mpr (Or.inl c3)⟩, if_pos ⟨c0, c3⟩]
        · rw [if_neg (fun q => c3 (mem_l hs q.2 (by omega))), if_neg (fun q => c3 q.2)]
      · rw [if_neg (fun q => c0 q.1), if_neg (fun q => c0 q.1)]
    · rw [if_neg c2]
      by_cases c3 : z.toNat ∈ tl r
      · rw [if_pos ⟨by omega, mem_br.mpr (Or.inr (Or.inr c3))⟩, if_pos ⟨by omega, c3⟩]
      · rw [if_neg (fun q => c3 (mem_r hs q.2 (by omega))), if_neg (fun q => c3 q.2)]
theorem c_find (de : Nat) (hp : AH) (W : Nat → Prop) (ad : Nat → Nat) (K U : Nat → Int) (T : Tr) (hT : HT hp W ad K U T) (hs : Srt T) (t : Nat) (a b f m s c lo g co : Int) (ht : hp t = some (tO ((ro T).map ad) a b f m s c lo g co)) (z : Int) (hz : -2147483648 ≤ z ∧ z ≤ 2147483647) : CtE de yX1_find cX1_find 3 (some (.object "CreditShelf$Entry")) (rmK 1 0 0) [.ref t, .int (iI z)] hp (rQ (fun o hp' => o = (fnd T z).map ad ∧ hp' = hp)) := by
  refine CtE.of (by decide) (EL.c1 rfl (EL.c1 rfl (EL.nn EL.n0))) (fun Γ h hq hnm hde => ?_)
  have loop : ∀ S : Tr, HT hp W ad K U S → Srt S → fnd S z = fnd T z → V Γ 0 0 hp 5 [some (.ref t), some (.int (iI z)), some (va_rf ((ro S).map ad))] [] := by
    intro S
    induction S with
    | leaf u =>
      intro h1 h2 h3
      show V Γ 0 0 hp 5 [some (.ref t), some (.int (iI z)), some .null] []
      refine v_aload_nN (n' := 6) h dX1_find_5 rfl rfl ?_
      refine v_ifnullZ (tgt := 40) h dX1_find_6 rfl ?_
      refine v_aload_nN (n' := 41) h dX1_find_40 rfl rfl ?_
      refine v_aret h hq dX1_find_41 (Or.inl ⟨_, rfl⟩) (Or.inl rfl) (by omega) (by omega) (ret_qn ?_)
      exact ⟨by rw [← h3, fnd_leaf]; rfl, rfl⟩
    | branch x l r ihl ihr =>
      intro h1 h2 h3
      obtain ⟨⟨he, hW, hk, hK⟩, hl, hr⟩ := HT.br.mp h1
      obtain ⟨g1, g2, g3, g4⟩ := srt_br.mp h2
      rw [fnd_br h2] at h3
      show V Γ 0 0 hp 5 [some (.ref t), some (.int (iI z)), some (.ref (ad x))] []
      refine v_aload_n (n' := 6) h dX1_find_5 rfl rfl ?_
      refine v_ifnullR (n' := 9) h dX1_find_6 rfl ?_
      refine v_aload_n (n' := 10) h dX1_find_9 rfl rfl ?_
      refine v_ekey (n' := 13) h q424 dX1_find_10 rfl (by first | assumption | exact upH_s | exact (upH_n (by assumption)).trans (by assumption) | exact (upH_n (by assumption)).trans upH_s | exact (upH_n (by assumption)).trans ((upH_n (by assumption)).trans (by assumption))) (by omega) ?_
      refine v_iload_n (n' := 14) h dX1_find_13 rfl rfl ?_
      refine v_icmp_eq (n' := 17) (tgt := 40) h dX1_find_14 rfl rfl (by omega) (by omega) (fun c14 => ?_) (fun c14 => ?_)
      · refine v_aload_n (n' := 41) h dX1_find_40 rfl rfl ?_
        refine v_aret h hq dX1_find_41 (Or.inl ⟨_, rfl⟩) (Or.inr ⟨_, rfl⟩) (by omega) (by omega) (ret_qs ?_)
        exact ⟨by rw [← h3, if_pos c14.symm]; rfl, rfl⟩
      · refine v_iload_n (n' := 18) h dX1_find_17 rfl rfl ?_
        refine v_aload_n (n' := 19) h dX1_find_18 rfl rfl ?_
        refine v_ekey (n' := 22) h q424 dX1_find_19 rfl (by first | assumption | exact upH_s | exact (upH_n (by assumption)).trans (by assumption) | exact (upH_n (by assumption)).trans upH_s | exact (upH_n (by assumption)).trans ((upH_n (by assumption)).trans (by assumption))) (by omega) ?_
        refine v_icmp_ge (n' := 25) (tgt := 32) h dX1_find_22 rfl rfl (by omega) (by omega) (fun c22 => ?_) (fun c22 => ?_)
        · refine v_aload_n (n' := 33) h dX1_find_32 rfl rfl ?_
          refine v_eright (n' := 36) h q430 dX1_find_33 rfl (by first | assumption | exact upH_s | exact (upH_n (by assumption)).trans (by assumption) | exact (upH_n (by assumption)).trans upH_s | exact (upH_n (by assumption)).trans ((upH_n (by assumption)).trans (by assumption))) (by omega) ?_
          refine v_astore2Q (n' := 37) h dX1_find_36 rfl rfl ?_
          refine v_goto (tgt := 5) h dX1_find_37 rfl ?_
          exact ihr hr g2 (by rw [← h3, if_neg (fun e => c14 e.symm), if_neg (by omega)])
        · refine v_aload_n (n' := 26) h dX1_find_25 rfl rfl ?_
          refine v_eleft (n' := 29) h q428 dX1_find_26 rfl (by first | assumption | exact upH_s | exact (upH_n (by assumption)).trans (by assumption) | exact (upH_n (by assumption)).trans upH_s | exact (upH_n (by assumption)).trans ((upH_n (by assumption)).trans (by assumption))) (by omega) ?_
          refine v_goto (tgt := 36) h dX1_find_29 rfl ?_
          refine v_astore2Q (n' := 37) h dX1_find_36 rfl rfl ?_
          refine v_goto (tgt := 5) h dX1_find_37 rfl ?_
          exact ihl hl g1 (by rw [← h3, if_neg (fun e => c14 e.symm), if_pos (by omega)])
  refine v_aload_n (n' := 1) h dX1_find_0 rfl rfl ?_
  refine v_get (n' := 4) (ci := 1) h rfl in_X1 0 (by decide) q118 rfl dX1_find_1 rfl (by first | assumption | exact upH_s | exact (upH_n (by assumption)).trans (by assumption) | exact (upH_n (by assumption)).trans upH_s | exact (upH_n (by assumption)).trans ((upH_n (by assumption)).trans (by assumption))) (by rfl) ?_
  refine v_astore2Q (n' := 5) h dX1_find_4 rfl rfl ?_
  exact loop T hT hs rfl
theorem c_leastOf (de : Nat) (hp : AH) (W : Nat → Prop) (ad : Nat → Nat) (K U : Nat → Int) : ∀ (T : Tr) (k0 : Nat), HT hp W ad K U T → ro T = some k0 → ∀ d, tz T ≤ d → d ≤ 1000 → CtE de yX1_leastOf cX1_leastOf 1 (some (.object "CreditShelf$Entry")) (rmK (d + 1) 0 0) [.ref (ad k0)] hp (rR (fun z hp' => z = ad (tmin T k0) ∧ hp' = hp)) := by
  intro T
  induction T with
  | leaf u => intro k0 _ h; cases h
  | branch k l r ihl ihr =>
    intro k0 hT h0 d hd hd2
    cases h0
    obtain ⟨⟨he, hW, hk, hK⟩, hl, hr⟩ := HT.br.mp hT
    simp only [tz] at hd
    obtain ⟨d, rfl⟩ : ∃ e, d = e + 1 := ⟨d - 1, by omega⟩
    refine CtE.of (by decide) (EL.c1 rfl EL.n0) (fun Γ h hq hnm hde => ?_)
    cases hL : ro l with
    | none =>
      rw [hL] at he
      have e0 : tmin (.branch k l r) k = k := by
        rw [ro_none] at hL
        subst hL
        rfl
      rw [e0] at hq
      refine v_aload_n (n' := 1) h dX1_leastOf_0 rfl rfl ?_
      refine v_eleft (n' := 4) h q428 dX1_leastOf_1 rfl (by first | assumption | exact upH_s | exact (upH_n (by assumption)).trans (by assumption) | exact (upH_n (by assumption)).trans upH_s | exact (upH_n (by assumption)).trans ((upH_n (by assumption)).trans (by assumption))) (by omega) ?_
      refine v_ifnonnullZ (n' := 7) h dX1_leastOf_4 rfl ?_
      refine v_aload_n (n' := 8) h dX1_leastOf_7 rfl rfl ?_
      refine v_goto (tgt := 18) h dX1_leastOf_8 rfl ?_
      refine v_aret h hq dX1_leastOf_18 (Or.inl ⟨_, rfl⟩) (Or.inr ⟨_, rfl⟩) (by omega) (by omega) (ret_r ?_)
      exact ⟨rfl, rfl⟩
    | some x =>
      rw [hL] at he
      have e0 : tmin (.branch k l r) k = tmin l x := by
        cases l with
        | leaf u => cases hL
        | branch y l1 l2 => rfl
      rw [e0] at hq
      refine v_aload_n (n' := 1) h dX1_leastOf_0 rfl rfl ?_
      refine v_eleft (n' := 4) h q428 dX1_leastOf_1 rfl (by first | assumption | exact upH_s | exact (upH_n (by assumption)).trans (by assumption) | exact (upH_n (by assumption)).trans upH_s | exact (upH_n (by assumption)).trans ((upH_n (by assumption)).trans (by assumption))) (by omega) ?_
      refine v_ifnonnullR (tgt := 11) h dX1_leastOf_4 rfl ?_
      refine v_aload_n (n' := 12) h dX1_leastOf_11 rfl rfl ?_
      refine v_eleft (n' := 15) h q428 dX1_leastOf_12 rfl (by first | assumption | exact upH_s | exact (upH_n (by assumption)).trans (by assumption) | exact (upH_n (by assumption)).trans upH_s | exact (upH_n (by assumption)).trans ((upH_n (by assumption)).trans (by assumption))) (by omega) ?_
      refine vc_callS (n' := 18) h ((ihl x hl hL d (by omega) (by omega)).d hde) (lw_S q736 q737 q83 q738) hdX1_leastOf ⟨by omega, by decide⟩ ⟨by omega, by omega⟩ (Nat.le_of_ble_eq_true rfl) dX1_leastOf_15 rfl (eR fun z15 hp15 p15 => ?_) rfl
      obtain ⟨ez15, fz15⟩ := p15
      have ez15 := ez15.symm
      have fz15 := fz15.symm
      subst ez15 fz15
      refine v_aret h hq dX1_leastOf_18 (Or.inl ⟨_, rfl⟩) (Or.inr ⟨_, rfl⟩) (by omega) (by omega) (ret_r ?_)
      exact ⟨rfl, rfl⟩
