/-! LISTS: java.util.ArrayList of entries; Math -/
set_option maxRecDepth 100000
section V34
variable {Γ : GX} {k n : Nat} {hp : AH} {pc n' : Nat} {L : List (Option Value)} {st : List Value} {cc : ByteArray} {own : String} {ret : Option FieldType} {R : Room}
theorem v_ifnullZ (h : Ok0 cc own ret R Γ) {off : Int} {tgt : Nat} (d : decode cc pc = .ok (.ifnull off, 3)) (ht : (pc : Int) + off = (tgt : Int)) (kk : V Γ k n hp tgt L st) : V Γ k n hp pc L (.null :: st) := fun H locs ls a1 a2 a3 a4 => lv_ifnullN h.1 h.2.1 d ht (kk H locs ls a1 a2 a3 a4)
theorem v_ifnonnullZ (h : Ok0 cc own ret R Γ) {off : Int} (d : decode cc pc = .ok (.ifnonnull off, 3)) (hn : pc + 3 = n') (kk : V Γ k n hp n' L st) : V Γ k n hp pc L (.null :: st) := fun H locs ls a1 a2 a3 a4 => by
  subst hn
  exact lv_ifnonnullN h.1 h.2.1 d (kk H locs ls a1 a2 a3 a4)
/-! a list's own cells -/
def cap (n : Nat) : Nat := if n = 0 then 0 else if n ≤ 10 then 10 else if n ≤ 15 then 15 else if n ≤ 22 then 22 else if n ≤ 33 then 33 else 49
def acC (n : Nat) : Nat := if n = 0 then 0 else if n ≤ 10 then 1 else if n ≤ 15 then 2 else if n ≤ 22 then 3 else if n ≤ 33 then 4 else 5
def acS (n : Nat) : Nat := if n = 0 then 0 else if n ≤ 10 then 10 else if n ≤ 15 then 25 else if n ≤ 22 then 47 else if n ≤ 33 then 80 else 129
abbrev lO (m n : Int) (arr : Nat) : va_E := .inr (10, [.int (iI m), .ref arr, .int (iI n)])
abbrev lA (N : Nat) (xs : List Nat) : va_E := aQ N (fun i => xs[i]?)
theorem v_modget (h : Ok0 cc own ret R Γ) {i a : Nat} {fs : List Value} {v : Value} (hw : Cond.fieldLink own i "java/util/ArrayList" "modCount" "I" ∈ lw_all) (d : decode cc pc = .ok (.getfield i, 3)) (hn : pc + 3 = n') (he : hp a = some (.inr (10, v :: fs))) (kk : V Γ k n hp n' L (v :: st)) : V Γ k n hp pc L (.ref a :: st) := fun H locs ls a1 a2 a3 a4 => by
  subst hn
  exact va_get (T := TJ2) (ci := 10) h.1 h.2.1 h.2.2.2.2.2.1 in_J2 h.2.2.2.2.1 h.2.2.2.2.2.2.1.1 (a1.P he) 0 rfl rfl 0 (by decide) (h.2.2.2.2.2.1 _ hw) (fun x hx => u_same (h.2.2.2.2.2.1 _ q177) x hx) rfl d (kk H locs ls a1 a2 a3 a4)
theorem v_modput (h : Ok0 cc own ret R Γ) {i a : Nat} {fs : List Value} {v : Value} {z : Int} (hw : Cond.fieldLink own i "java/util/ArrayList" "modCount" "I" ∈ lw_all) (d : decode cc pc = .ok (.putfield i, 3)) (hn : pc + 3 = n') (he : hp a = some (.inr (10, v :: fs))) (kk : V Γ k n (upH hp a (.inr (10, .int (iI z) :: fs))) n' L st) : V Γ k n hp pc L (.int (iI z) :: .ref a :: st) := fun H locs ls a1 a2 a3 a4 => by
  subst hn
  have hts := h.2.2.2.2.2.1
  have hK := h.2.2.2.2.2.2.1.1
  have hc : CL[10]? = some (RJ2, TJ2, 3) := rfl
  have hf : 0 < 3 := by decide
  have hap := va_apart (own := own) hts in_J2 tyJ2 tyJ2_ok nmJ2 hK hc
  obtain ⟨r, h1, cell, q1, q2, q3, q4⟩ := a1 a _ he
  have hr : r = (RJ2, TJ2, 3) := Option.some.inj (h1.symm.trans hc)
  subst hr
  obtain ⟨hS, hfc, kC, hkC, hkind⟩ := hK.1 10 _ hc
  obtain ⟨cf, kf, fi, fd, hi, hsl⟩ := hS 0 hf
  have hlay := hts _ (in_J2 _ (u_in_lay hf))
  unfold u_lay at hlay
  rw [if_neg (by decide)] at hlay
  have hst := (u_facts hfc hkC (u_lays hts in_J2 hf) hi).1
  have h6 := u_store (v := .int (iI z)) hfc hkC hkind hlay hi (tyJ2_ok 0 hf) rfl rfl
  refine W.putK h.1 h.2.1 (f := fd) ⟨h.2.2.2.2.1, hts _ hw, ⟨_, _, _, u_same (hts _ q177) _ hi⟩, hst⟩ (by rw [q2]; exact h6) q1 q3 (by rw [hsl]; exact k2_hasslot (q4 0 hf)) rfl rfl d fun H' e1 e2 e3 => ?_
  rw [hsl] at e1 ⊢
  have hA : gA Γ a := a2 a (by rw [he]; exact fun z => by cases z)
  exact kk H' _ ls (a1.up ⟨_, hc, t_OB.to (V := updV (vp_V (v :: fs)) 0 (.int (iI z))) ⟨_, e1, q2, q3, t_set q4 hap hf _⟩ (fun j _ => vp_updV_set (show 0 < (v :: fs).length by simp) (.int (iI z)) j)⟩ (fun q c _ => e3 q c)) (up_dom hA a2) (a3.put e2 e3 hA) a4
theorem rmC {l c s k : Nat} (h : k ≤ c) : k ≤ (rmK l c s).cells := h
theorem rmS {l c s k : Nat} (h : k ≤ s) : k ≤ (rmK l c s).slots := h
theorem rm1 {l c s : Nat} (h : 1 ≤ l) : 1 ≤ (rmK l c s).frames ∧ 20 ≤ (rmK l c s).locals := by
  show 1 ≤ l ∧ 20 ≤ 60 * l
  omega
theorem iI_mx {x y : Int} (hx : -2147483648 ≤ x ∧ x ≤ 2147483647) (hy : -2147483648 ≤ y ∧ y ≤ 2147483647) : (if iI x < iI y then iI y else iI x) = iI (mx x y) := by
  unfold mx
  by_cases c : x < y
  · rw [if_pos ((iI_lt hx hy).mpr c), if_neg (by omega)]
  · rw [if_neg (fun z => c ((iI_lt hx hy).mp z))]
    split
    · rfl
    · rw [show x = y by omega]
theorem iI_mn {x y : Int} (hx : -2147483648 ≤ x ∧ x ≤ 2147483647) (hy : -2147483648 ≤ y ∧ y ≤ 2147483647) : (if iI y < iI x then iI y else iI x) = iI (mn x y) := by
  unfold mn
  by_cases c : y < x
  · rw [if_pos ((iI_lt hy hx).mpr c), if_neg (by omega)]
  · rw [if_neg (fun z => c ((iI_lt hy hx).mp z))]
    split
    · rfl
    · rw [show x = y by omega]
theorem v_mmax (h : Ok0 cc own ret R Γ) {i : Nat} {x y : Int} (hw : Cond.methodLink own i yJ5_max ∈ lw_all) (hs : Cond.static yJ5_max ∈ lw_all) (hini : Cond.initialized "java/lang/Math" ∈ lw_all) (hcode : Cond.code yJ5_max cJ5_max 2 (some .int) ∈ lw_all) (hR : 1 ≤ R.frames ∧ 20 ≤ R.locals) (hst : (st.map fun v => v.category).sum ≤ 7) (hk : k ≤ R.cells) (hsl : n ≤ R.slots) (d : decode cc pc = .ok (.invokestatic i, 3)) (hn : pc + 3 = n') (hx : -2147483648 ≤ x ∧ x ≤ 2147483647) (hy : -2147483648 ≤ y ∧ y ≤ 2147483647) (kk : V Γ k n hp n' L (.int (iI (mx x y)) :: st)) : V Γ k n hp pc L (.int (iI y) :: .int (iI x) :: st) := fun H locs ls a1 a2 a3 a4 => by
  subst hn
  have hts := h.2.2.2.2.2.1
  have hRR := h.2.2.2.2.2.2.2.2.2
  refine va_mmax h.1 h.2.1 (by rw [h.2.2.1]; exact a4.2.1.symm) h.2.2.2.2.1 (hts _ hw) (hts _ hs) (hts _ hini) (hts _ hcode) (by rw [hRR]; exact hR.1) (by rw [hRR]; omega) (by rw [hRR]; exact hk) (by rw [hRR]; exact hsl) d ?_
  rw [iI_mx hx hy]
  exact kk H locs ls a1 a2 a3 a4
theorem v_mmin (h : Ok0 cc own ret R Γ) {i : Nat} {x y : Int} (hw : Cond.methodLink own i yJ5_min ∈ lw_all) (hs : Cond.static yJ5_min ∈ lw_all) (hini : Cond.initialized "java/lang/Math" ∈ lw_all) (hcode : Cond.code yJ5_min cJ5_min 2 (some .int) ∈ lw_all) (hR : 1 ≤ R.frames ∧ 20 ≤ R.locals) (hst : (st.map fun v => v.category).sum ≤ 7) (hk : k ≤ R.cells) (hsl : n ≤ R.slots) (d : decode cc pc = .ok (.invokestatic i, 3)) (hn : pc + 3 = n') (hx : -2147483648 ≤ x ∧ x ≤ 2147483647) (hy : -2147483648 ≤ y ∧ y ≤ 2147483647) (kk : V Γ k n hp n' L (.int (iI (mn x y)) :: st)) : V Γ k n hp pc L (.int (iI y) :: .int (iI x) :: st) := fun H locs ls a1 a2 a3 a4 => by
  subst hn
  have hts := h.2.2.2.2.2.1
  have hRR := h.2.2.2.2.2.2.2.2.2
  refine va_mmin h.1 h.2.1 (by rw [h.2.2.1]; exact a4.2.1.symm) h.2.2.2.2.1 (hts _ hw) (hts _ hs) (hts _ hini) (hts _ hcode) (by rw [hRR]; exact hR.1) (by rw [hRR]; omega) (by rw [hRR]; exact hk) (by rw [hRR]; exact hsl) d ?_
  rw [iI_mn hx hy]
  exact kk H locs ls a1 a2 a3 a4
end V34
theorem cap_r {n : Nat} (h : n ≤ 49) : n ≤ cap n ∧ cap n ≤ 49 := by
  unfold cap
  split
  · omega
  split
  · omega
  split
  · omega
  split
  · omega
  split <;> omega
theorem cap_eq {n : Nat} : n = 0 ∧ cap n = 0 ∨ (0 < n ∧ n ≤ 10) ∧ cap n = 10 ∨ (10 < n ∧ n ≤ 15) ∧ cap n = 15 ∨ (15 < n ∧ n ≤ 22) ∧ cap n = 22 ∨ (22 < n ∧ n ≤ 33) ∧ cap n = 33 ∨ 33 < n ∧ cap n = 49 := by
  unfold cap
  split
  · omega
  split
  · omega
  split
  · omega
  split
  · omega
  split <;> omega
theorem c_chk7 (de : Nat) (hp : AH) (i n : Int) (hi : 0 ≤ i ∧ i < n) (hn : n ≤ 1000) : CtE de yJ7_checkIndex cJ7_checkIndex 3 (some .int) (rmK 1 0 0) [.int (iI i), .int (iI n), .null] hp (rI (fun z hp' => z = i ∧ hp' = hp)) := by
  refine CtE.of (by decide) (EL.c1 rfl (EL.c1 rfl (EL.c1 rfl EL.n0))) (fun Γ h hq hnm hde => ?_)
  refine v_iload_n (n' := 1) h dJ7_checkIndex_0 rfl rfl ?_
  refine v_if_lt (n' := 4) (tgt := 9) h dJ7_checkIndex_1 rfl rfl (by omega) (fun c1 => ?_) (fun c1 => ?_)
  · omega
  · refine v_iload_n (n' := 5) h dJ7_checkIndex_4 rfl rfl ?_
    refine v_iload_n (n' := 6) h dJ7_checkIndex_5 rfl rfl ?_
    refine v_icmp_lt (n' := 9) (tgt := 16) h dJ7_checkIndex_6 rfl rfl (by omega) (by omega) (fun c6 => ?_) (fun c6 => ?_)
    · refine v_iload_n (n' := 17) h dJ7_checkIndex_16 rfl rfl ?_
      refine v_iret h hq dJ7_checkIndex_17 (by omega) (by omega) (ret_i ?_)
      exact ⟨rfl, rfl⟩
    · omega
theorem c_chk6 (de : Nat) (hp : AH) (i n : Int) (hi : 0 ≤ i ∧ i < n) (hn : n ≤ 1000) : CtE de yJ6_checkIndex cJ6_checkIndex 2 (some .int) (rmK 2 0 0) [.int (iI i), .int (iI n)] hp (rI (fun z hp' => z = i ∧ hp' = hp)) := by
  refine CtE.of (by decide) (EL.c1 rfl (EL.c1 rfl EL.n0)) (fun Γ h hq hnm hde => ?_)
  refine v_iload_n (n' := 1) h dJ6_checkIndex_0 rfl rfl ?_
  refine v_iload_n (n' := 2) h dJ6_checkIndex_1 rfl rfl ?_
  refine v_null (n' := 3) h dJ6_checkIndex_2 rfl ?_
  refine vc_callS (n' := 6) h ((c_chk7 de hp i n hi hn).d hde) (lw_S q404 q405 q94 q406) hdJ7_checkIndex ⟨by omega, by decide⟩ ⟨by omega, by omega⟩ (Nat.le_of_ble_eq_true rfl) dJ6_checkIndex_3 rfl (eI fun z3 hp3 p3 => ?_) rfl
  obtain ⟨ez3, fz3⟩ := p3
  have ez3 := ez3.symm
  have fz3 := fz3.symm
  subst ez3 fz3
  refine v_iret h hq dJ6_checkIndex_6 (by omega) (by omega) (ret_i ?_)
  exact ⟨rfl, rfl⟩
def dvJ2 : List Value := [.int (iI 0), .null, .int (iI 0)]
theorem dvJ2_ok : ∀ j, j < 3 → defaultValue (tyJ2 j) = vp_V dvJ2 j := by decide
/-- the list w holds xs; its cells lie in W -/
def Ls (hp : AH) (W : Nat → Prop) (de w : Nat) (xs : List Nat) : Prop := ∃ arr : Nat, hp w = some (lO xs.length xs.length arr) ∧ W w ∧ ((xs = [] ∧ arr = de) ∨ (xs ≠ [] ∧ W arr ∧ hp arr = some (lA (cap xs.length) xs)))
/-- all that lie there are entries -/
def En (hp : AH) (xs : List Nat) : Prop := ∀ y ∈ xs, ∃ (kd : Nat) (fs : List Value), kd < 5 ∧ hp y = some (.inr (5 + kd, fs))
theorem c_coll (de : Nat) (hp : AH) (a : Nat) : CtE de yJ0_init cJ0_init 1 none (rmK 2 0 0) [.ref a] hp (rV (fun hp' => hp' = hp)) := by
  refine CtE.of (by decide) (EL.c1 rfl EL.n0) (fun Γ h hq hnm hde => ?_)
  refine v_aload_n (n' := 1) h dJ0_init_0 rfl rfl ?_
  refine v_objInit (n' := 4) h q170 q110 q111 dJ0_init_1 rfl (rm1 (by omega)) (Nat.le_of_ble_eq_true rfl) ?_
  refine v_vret h hq dJ0_init_4 (by omega) (by omega) (ret_v ?_)
  rfl
theorem c_alist (de : Nat) (hp : AH) (a : Nat) (x y z : Value) (he : hp a = some (.inr (10, [x, y, z]))) : CtE de yJ1_init cJ1_init 1 none (rmK 3 0 0) [.ref a] hp (rV (fun hp' => hp' = upH hp a (.inr (10, [.int (iI 0), y, z])))) := by
  refine CtE.of (by decide) (EL.c1 rfl EL.n0) (fun Γ h hq hnm hde => ?_)
  refine v_aload_n (n' := 1) h dJ1_init_0 rfl rfl ?_
  refine vc_callI (n' := 4) h ((c_coll de hp a).d hde) q169 q84 q167 q168 rfl hdJ0_init ⟨by omega, by decide⟩ ⟨by omega, by omega⟩ (Nat.le_of_ble_eq_true rfl) dJ1_init_1 rfl (eV fun hp1 p1 => ?_) rfl
  have p1 := p1.symm
  subst p1
  refine v_aload_n (n' := 5) h dJ1_init_4 rfl rfl ?_
  refine v_iconst (n' := 6) h dJ1_init_5 rfl ?_
  refine v_put (n' := 9) (ci := 10) h rfl in_J2 tyJ2 tyJ2_ok nmJ2 0 (by decide) q175 rfl rfl dJ1_init_6 rfl (by first | assumption | exact upH_s | exact (upH_n (by assumption)).trans (by assumption) | exact (upH_n (by assumption)).trans upH_s | exact (upH_n (by assumption)).trans ((upH_n (by assumption)).trans (by assumption))) (by show 0 < 3; decide) rfl rfl ?_
  refine v_vret h hq dJ1_init_9 (by omega) (by omega) (ret_v ?_)
  rfl
theorem c_linit (de : Nat) (hp : AH) (a : Nat) (he : hp a = some (.inr (10, dvJ2))) : CtE de yJ2_init cJ2_init 1 none (rmK 4 0 0) [.ref a] hp (rV (fun hp' => hp' = upH hp a (lO 0 0 de))) := by
  refine CtE.of (by decide) (EL.c1 rfl EL.n0) (fun Γ h hq hnm hde => ?_)
  refine v_aload_n (n' := 1) h dJ2_init_0 rfl rfl ?_
  refine vc_callI (n' := 4) h ((c_alist de hp a _ _ _ he).d hde) q166 q85 q164 q165 rfl hdJ1_init ⟨by omega, by decide⟩ ⟨by omega, by omega⟩ (Nat.le_of_ble_eq_true rfl) dJ2_init_1 rfl (eV fun hp1 p1 => ?_) rfl
  have p1 := p1.symm
  subst p1
  refine v_aload_n (n' := 5) h dJ2_init_4 rfl rfl ?_
  refine v_getsD (n' := 8) h q171 dJ2_init_5 rfl hde ?_
  refine v_put (n' := 11) (ci := 10) h rfl in_J2 tyJ2 tyJ2_ok nmJ2 1 (by decide) q173 rfl rfl dJ2_init_8 rfl (by first | assumption | exact upH_s | exact (upH_n (by assumption)).trans (by assumption) | exact (upH_n (by assumption)).trans upH_s | exact (upH_n (by assumption)).trans ((upH_n (by assumption)).trans (by assumption))) (by show 1 < 3; decide) rfl rfl ?_
  refine v_vret h hq dJ2_init_11 (by omega) (by omega) (ret_v ?_)
  rw [upH_up]; rfl
theorem c_size (de : Nat) (hp : AH) (a : Nat) (m n : Int) (arr : Nat) (he : hp a = some (lO m n arr)) : CtE de yJ2_size cJ2_size 1 (some .int) (rmK 1 0 0) [.ref a] hp (rI (fun z hp' => z = n ∧ hp' = hp)) := by
  refine CtE.of (by decide) (EL.c1 rfl EL.n0) (fun Γ h hq hnm hde => ?_)
  refine v_aload_n (n' := 1) h dJ2_size_0 rfl rfl ?_
  refine v_get (n' := 4) (ci := 10) h rfl in_J2 2 (by decide) q174 rfl dJ2_size_1 rfl (by first | assumption | exact upH_s | exact (upH_n (by assumption)).trans (by assumption) | exact (upH_n (by assumption)).trans upH_s | exact (upH_n (by assumption)).trans ((upH_n (by assumption)).trans (by assumption))) (by rfl) ?_
  refine v_iret h hq dJ2_size_4 (by omega) (by omega) (ret_i ?_)
  exact ⟨rfl, rfl⟩
theorem c_elem (de : Nat) (hp : AH) (a : Nat) (m n : Int) (arr N : Nat) (f : Nat → Option Nat) (i : Nat) (y : Nat) (he : hp a = some (lO m n arr)) (hA : hp arr = some (aQ N f)) (hi : i < N) (hN : N ≤ 1000) (hy : f i = some y) : CtE de yJ2_elementData cJ2_elementData 2 (some (.object "java/lang/Object")) (rmK 1 0 0) [.ref a, .int (iI i)] hp (rR (fun z hp' => z = y ∧ hp' = hp)) := by
  refine CtE.of (by decide) (EL.c1 rfl (EL.c1 rfl EL.n0)) (fun Γ h hq hnm hde => ?_)
  refine v_aload_n (n' := 1) h dJ2_elementData_0 rfl rfl ?_
  refine v_get (n' := 4) (ci := 10) h rfl in_J2 1 (by decide) q173 rfl dJ2_elementData_1 rfl (by first | assumption | exact upH_s | exact (upH_n (by assumption)).trans (by assumption) | exact (upH_n (by assumption)).trans upH_s | exact (upH_n (by assumption)).trans ((upH_n (by assumption)).trans (by assumption))) (by rfl) ?_
  refine v_iload_n (n' := 5) h dJ2_elementData_4 rfl rfl ?_
  refine v_aald (n' := 6) h dJ2_elementData_5 rfl (by first | assumption | exact upH_s | exact (upH_n (by assumption)).trans (by assumption) | exact (upH_n (by assumption)).trans upH_s | exact (upH_n (by assumption)).trans ((upH_n (by assumption)).trans (by assumption))) (by omega) (by omega) ?_
  refine V.cast (st2 := [.ref y]) rfl (by rw [Int.toNat_natCast, hy]; rfl) ?_
  refine v_aret h hq dJ2_elementData_6 (Or.inl ⟨_, rfl⟩) (Or.inr ⟨_, rfl⟩) (by omega) (by omega) (ret_r ?_)
  exact ⟨rfl, rfl⟩
theorem c_get (de : Nat) (hp : AH) (W : Nat → Prop) (a : Nat) (xs : List Nat) (i : Nat) (y : Nat) (hl : Ls hp W de a xs) (hy : xs[i]? = some y) (hx : xs.length ≤ 49) : CtE de yJ2_get cJ2_get 2 (some (.object "java/lang/Object")) (rmK 3 0 0) [.ref a, .int (iI i)] hp (rR (fun z hp' => z = y ∧ hp' = hp)) := by
  obtain ⟨arr, he, hw, h3⟩ := hl
  have hi : i < xs.length := (List.getElem?_eq_some_iff.mp hy).1
  rcases h3 with ⟨rfl, -⟩ | ⟨h3, h4, h5⟩
  · simp at hi
  have hc : xs.length ≤ cap xs.length ∧ cap xs.length ≤ 49 := cap_r hx
  refine CtE.of (by decide) (EL.c1 rfl (EL.c1 rfl EL.n0)) (fun Γ h hq hnm hde => ?_)
  refine v_iload_n (n' := 1) h dJ2_get_0 rfl rfl ?_
  refine v_aload_n (n' := 2) h dJ2_get_1 rfl rfl ?_
  refine v_get (n' := 5) (ci := 10) h rfl in_J2 2 (by decide) q174 rfl dJ2_get_2 rfl (by first | assumption | exact upH_s | exact (upH_n (by assumption)).trans (by assumption) | exact (upH_n (by assumption)).trans upH_s | exact (upH_n (by assumption)).trans ((upH_n (by assumption)).trans (by assumption))) (by rfl) ?_
  refine vc_callS (n' := 8) h ((c_chk6 de hp i xs.length (by omega) (by omega)).d hde) (lw_S q401 q402 q93 q403) hdJ6_checkIndex ⟨by omega, by decide⟩ ⟨by omega, by omega⟩ (Nat.le_of_ble_eq_true rfl) dJ2_get_5 rfl (eI fun z5 hp5 p5 => ?_) rfl
  obtain ⟨ez5, fz5⟩ := p5
  have ez5 := ez5.symm
  have fz5 := fz5.symm
  subst ez5 fz5
  refine v_pop (n' := 9) h dJ2_get_8 rfl rfl ?_
  refine v_aload_n (n' := 10) h dJ2_get_9 rfl rfl ?_
  refine v_iload_n (n' := 11) h dJ2_get_10 rfl rfl ?_
  refine vc_callV (n' := 14) (ci := 10) h ((c_elem de hp a _ _ arr _ _ i y he h5 (by omega) (by omega) hy).d hde) rfl (by first | assumption | exact upH_s | exact (upH_n (by assumption)).trans (by assumption) | exact (upH_n (by assumption)).trans upH_s | exact (upH_n (by assumption)).trans ((upH_n (by assumption)).trans (by assumption))) (lw_V q407 q408 q409 q86 q410) hdJ2_elementData ⟨by omega, by decide⟩ ⟨by omega, by omega⟩ (Nat.le_of_ble_eq_true rfl) dJ2_get_11 rfl (eR fun z11 hp11 p11 => ?_) rfl
  obtain ⟨ez11, fz11⟩ := p11
  have ez11 := ez11.symm
  have fz11 := fz11.symm
  subst ez11 fz11
  refine v_aret h hq dJ2_get_14 (Or.inl ⟨_, rfl⟩) (Or.inr ⟨_, rfl⟩) (by omega) (by omega) (ret_r ?_)
  exact ⟨rfl, rfl⟩
theorem c_newLen (de : Nat) (hp : AH) (o g p : Int) (ho : 0 < o ∧ o ≤ 100) (hg : 1 ≤ g ∧ g ≤ p) (hp1 : p ≤ 100) : CtE de yJ8_newLength cJ8_newLength 4 (some .int) (rmK 2 0 0) [.int (iI o), .int (iI g), .int (iI p)] hp (rI (fun z hp' => z = o + p ∧ hp' = hp)) := by
  have em : mx g p = p := by unfold mx; split <;> omega
  refine CtE.of (by decide) (EL.c1 rfl (EL.c1 rfl (EL.c1 rfl (EL.nn EL.n0)))) (fun Γ h hq hnm hde => ?_)
  refine v_iload_n (n' := 1) h dJ8_newLength_0 rfl rfl ?_
  refine v_iload_n (n' := 2) h dJ8_newLength_1 rfl rfl ?_
  refine v_iload_n (n' := 3) h dJ8_newLength_2 rfl rfl ?_
  refine v_mmax (n' := 6) h q501 q502 q92 q503 (rm1 (by omega)) (Nat.le_of_ble_eq_true rfl) (rmC (by omega)) (rmS (by omega)) dJ8_newLength_3 rfl (by omega) (by omega) ?_
  rw [em]
  refine v_iadd (n' := 7) h dJ8_newLength_6 rfl ?_
  refine v_istore3 (n' := 8) h dJ8_newLength_7 rfl rfl ?_
  refine v_iconst (n' := 9) h dJ8_newLength_8 rfl ?_
  refine v_iload_n (n' := 10) h dJ8_newLength_9 rfl rfl ?_
  refine v_icmp_ge (n' := 13) (tgt := 21) h dJ8_newLength_10 rfl rfl (by omega) (by omega) (fun c10 => ?_) (fun c10 => ?_)
  · omega
  · refine v_iload_n (n' := 14) h dJ8_newLength_13 rfl rfl ?_
    refine v_ldc (n' := 16) (z := 2147483639) h dJ8_newLength_14 rfl q504 (by decide) ?_
    refine v_icmp_gt (n' := 19) (tgt := 21) h dJ8_newLength_16 rfl rfl (by omega) (by omega) (fun c16 => ?_) (fun c16 => ?_)
    · omega
    · refine v_iload_n (n' := 20) h dJ8_newLength_19 rfl rfl ?_
      refine v_iret h hq dJ8_newLength_20 (by omega) (by omega) (ret_i ?_)
      exact ⟨rfl, rfl⟩
theorem lA_none {xs : List Nat} {i : Nat} (h : xs.length ≤ i) : xs[i]? = none := List.getElem?_eq_none h
theorem cpy_l (xs : List Nat) : va_cpy (fun i => xs[i]?) (fun _ => (none : Option Nat)) 0 0 xs.length = fun i => xs[i]? := by
  funext j
  by_cases c : j < xs.length
  · rw [pk_cpy_in (by omega) (by omega)]
    congr 1
    omega
  · rw [pk_cpy_out (by omega), lA_none (by omega)]
theorem CtD.of {D : DD} {y : MethodName} {b : ByteArray} {nL : Nat} {ret : Option FieldType} {As : List Value} {hp : AH} {post : Option Value → AH → Prop} {L : List (Option Value)} {l c s : Nat} (hy : plainName y.cls = true) (hL : EL As nL L)
    (body : ∀ Γ : GX, Ok0 b y.cls ret (rmK l c s) Γ → Rt post c s Γ → (gMt Γ).name = y.name → gD Γ = D → V Γ 0 0 hp 0 L []) : CtD D y b nL ret (rmK l c s) As hp post := by
  intro l0 sz
  refine Met.ofW (cc := b) (maxL := nL) (ret := ret) hy rfl ?_
  intro p e s0 m args below meth cd s₁ B hml hv
  obtain ⟨rfl, hsz, hP, hE⟩ := hv
  subst hsz
  have hts := atoms_spec (ws := ws_ y b nL ret) B.pre
  have hts : ∀ w ∈ lw_all, w.before As.toArray s0 = true := fun w h => hts w (List.mem_cons_of_mem _ h)
  rw [lg_entry_eq]
  exact body (p, l0, e, rmK l c s, s0, m, As.toArray, below, meth, cd, D, AA hp s0.heap.size, nL, MQ below (QG D post (AA hp s0.heap.size)) As.toArray s0 (rmK l c s).cells (rmK l c s).slots (AA hp s0.heap.size))
    ⟨B.exec, B.bytes, hml, B.returns, findClass_of_methodNamed B.named, hts, hE, fun q h => Or.inr h, B.notSynchronized, rfl⟩ rfl (name_of_methodNamed B.named B.method).1 rfl s0.heap [] _ hP (fun a h => Or.inl h) va_S.rf hL.lh
theorem rm2 {l c s : Nat} (h : 1 ≤ l) : 1 ≤ (rmK l c s).frames ∧ 60 ≤ (rmK l c s).locals := by
  show 1 ≤ l ∧ 60 ≤ 60 * l
  omega
theorem rm3 {l c s : Nat} (h : 1 ≤ l) : 1 ≤ (rmK l c s).frames ∧ 30 ≤ (rmK l c s).locals := by
  show 1 ≤ l ∧ 30 ≤ 60 * l
  omega
theorem En.el {hp : AH} {xs : List Nat} (h : En hp xs) : ∀ (i y : Nat), (fun i : Nat => xs[i]?) i = some y → ∃ (kd : Nat) (fs : List Value), kd < 5 ∧ hp y = some (.inr (5 + kd, fs)) := fun i y e => h y (List.mem_of_getElem? e)
theorem En.up {hp : AH} {xs : List Nat} {a : Nat} {e : va_E} (h : En hp xs) (ha : hp a = none) : En (upH hp a e) xs := by
  intro y hy
  obtain ⟨kd, fs, h1, h2⟩ := h y hy
  exact ⟨kd, fs, h1, (upH_n (free_ne h2 ha)).trans h2⟩
theorem c_copy2 (D : DD) (hp : AH) (arr N : Nat) (xs : List Nat) (hA : hp arr = some (lA xs.length xs)) (hx : xs.length ≤ 49) (hN : xs.length ≤ N ∧ N ≤ 100) (hE : En hp xs) : CtD D yJ9_copyOf_2 cJ9_copyOf_2 4 (some (.array (.object "java/lang/Object"))) (rmK 2 1 N) [.ref arr, .int (iI N), .ref D.2.2.2] hp (rR (fun z hp' => hp z = none ∧ hp' = upH hp z (lA N xs))) := by
  refine CtD.of (by decide) (EL.c1 rfl (EL.c1 rfl (EL.c1 rfl (EL.nn EL.n0)))) (fun Γ h hq hnm hD => ?_)
  subst hD
  have em : mn (xs.length : Int) (N : Int) = (xs.length : Int) := by unfold mn; split <;> omega
  refine v_aload_n (n' := 1) h dJ9_copyOf_2_0 rfl rfl ?_
  refine v_ldcM (n' := 3) h q529 dJ9_copyOf_2_1 rfl rfl ?_
  refine v_acmp_ne (n' := 6) (ra := some _) (rb := some _) (tgt := 13) h dJ9_copyOf_2_3 rfl rfl rfl rfl (fun c3 => ?_) (fun c3 => ?_)
  · exact absurd rfl c3
  · refine v_iload_n (n' := 7) h dJ9_copyOf_2_6 rfl rfl ?_
    refine v_anew (n' := 10) h q531 dJ9_copyOf_2_7 rfl (by omega) (rmC (by omega)) (rmS (by rw [Int.toNat_natCast]; omega)) (fun a7 n7 => ?_)
    rw [Int.toNat_natCast]
    have na : arr ≠ a7 := free_ne hA n7
    refine v_goto (tgt := 24) h dJ9_copyOf_2_10 rfl ?_
    refine v_astore3 (n' := 25) h dJ9_copyOf_2_24 rfl rfl ?_
    refine v_aload_n (n' := 26) h dJ9_copyOf_2_25 rfl rfl ?_
    refine v_iconst (n' := 27) h dJ9_copyOf_2_26 rfl ?_
    refine v_aload_n (n' := 28) h dJ9_copyOf_2_27 rfl rfl ?_
    refine v_iconst (n' := 29) h dJ9_copyOf_2_28 rfl ?_
    refine v_aload_n (n' := 30) h dJ9_copyOf_2_29 rfl rfl ?_
    refine v_alen (n' := 31) h dJ9_copyOf_2_30 rfl (by first | assumption | exact upH_s | exact (upH_n (by assumption)).trans (by assumption) | exact (upH_n (by assumption)).trans upH_s | exact (upH_n (by assumption)).trans ((upH_n (by assumption)).trans (by assumption))) (by decide) ?_
    refine v_iload_n (n' := 32) h dJ9_copyOf_2_31 rfl rfl ?_
    refine v_mmin (n' := 35) h q532 q379 q92 q380 (rm1 (by omega)) (Nat.le_of_ble_eq_true rfl) (rmC (by omega)) (rmS (by omega)) dJ9_copyOf_2_32 rfl (by omega) (by omega) ?_
    refine v_copy (n' := 38) (m := (mn (xs.length : Int) (N : Int))) h q533 q535 q534 q102 (rm2 (by omega)) (Nat.le_of_ble_eq_true rfl) dJ9_copyOf_2_35 rfl ((upH_n na).trans hA) upH_s (by omega) (En.el (hE.up n7)) ?_
    rw [em, Int.toNat_natCast, upH_up, cpy_l]
    refine v_aload_n (n' := 39) h dJ9_copyOf_2_38 rfl rfl ?_
    refine v_aret h hq dJ9_copyOf_2_39 (Or.inr ⟨_, rfl⟩) (Or.inr ⟨_, rfl⟩) (by omega) (by omega) (ret_r ?_)
    exact ⟨n7, rfl⟩
theorem c_copy1 (de : Nat) (hp : AH) (arr N : Nat) (xs : List Nat) (hA : hp arr = some (lA xs.length xs)) (hx : xs.length ≤ 49) (hN : xs.length ≤ N ∧ N ≤ 100) (hE : En hp xs) : CtE de yJ9_copyOf cJ9_copyOf 2 (some (.array (.object "java/lang/Object"))) (rmK 3 1 N) [.ref arr, .int (iI N)] hp (rR (fun z hp' => hp z = none ∧ hp' = upH hp z (lA N xs))) := by
  refine CtE.of (by decide) (EL.c1 rfl (EL.c1 rfl EL.n0)) (fun Γ h hq hnm hde => ?_)
  refine v_aload_n (n' := 1) h dJ9_copyOf_0 rfl rfl ?_
  refine v_iload_n (n' := 2) h dJ9_copyOf_1 rfl rfl ?_
  refine v_aload_n (n' := 3) h dJ9_copyOf_2 rfl rfl ?_
  refine v_getC (n' := 6) h q511 q1420 q512 q525 (rm3 (by omega)) (Nat.le_of_ble_eq_true rfl) dJ9_copyOf_3 rfl rfl hA ?_
  refine vc_callS (n' := 9) h (c_copy2 (gD Γ) hp arr N xs hA hx hN hE) (lw_S q526 q527 q101 q528) hdJ9_copyOf_2 ⟨by omega, by decide⟩ ⟨by omega, by omega⟩ (Nat.le_of_ble_eq_true rfl) dJ9_copyOf_6 rfl (eR fun z6 hp6 p6 => ?_) rfl
  refine v_aret h hq dJ9_copyOf_9 (Or.inr ⟨_, rfl⟩) (Or.inr ⟨_, rfl⟩) (by omega) (by omega) (ret_r ?_)
  exact p6
theorem acG {n : Nat} (h : n ≤ 48) (hc : cap n = n) : acC (n + 1) = acC n + 1 ∧ acS (n + 1) = acS n + cap (n + 1) ∧ cap (n + 1) ≤ 49 ∧ n + 1 ≤ cap (n + 1) ∧ (n = 0 → cap (n + 1) = 10) ∧ (0 < n → cap (n + 1) = n + n / 2 ∧ 10 ≤ n) := by
  have : n = 0 ∨ n = 10 ∨ n = 15 ∨ n = 22 ∨ n = 33 := by
    have := cap_eq (n := n)
    omega
  rcases this with rfl | rfl | rfl | rfl | rfl <;> decide
theorem acN {n : Nat} (h : n ≤ 48) (hc : cap n ≠ n) : acC (n + 1) = acC n ∧ acS (n + 1) = acS n ∧ cap (n + 1) = cap n ∧ n < cap n := by
  have : n ∈ List.range 49 := List.mem_range.mpr (by omega)
  revert hc
  have key : ∀ m ∈ List.range 49, cap m ≠ m → acC (m + 1) = acC m ∧ acS (m + 1) = acS m ∧ cap (m + 1) = cap m ∧ m < cap m := by decide
  exact key n this
theorem acM (n : Nat) : acC n ≤ acC (n + 1) ∧ acS n ≤ acS (n + 1) := by
  unfold acC acS
  constructor <;> (repeat' split) <;> omega
theorem acB (n : Nat) : acC n ≤ 5 ∧ acS n ≤ 129 := by
  unfold acC acS
  constructor <;> (repeat' split) <;> omega
