/-! FRAMEWORK 4: booleans as numbers, switches, descriptors -/
set_option maxRecDepth 100000
theorem EL.n0 : EL [] 0 [] := EL.nil 0
theorem EL.nn {n : Nat} {L : List (Option Value)} (h : EL [] n L) : EL [] (n + 1) (none :: L) := by
  obtain ⟨k, h1, h2, h3⟩ := h
  have e : k = n := by simpa [lg_sl] using h1
  subst e
  refine ⟨k + 1, by simp [lg_sl], by simp [lg_sl] at h2 ⊢; omega, fun i w hi => ?_⟩
  cases i with
  | zero => simp at hi
  | succ i =>
    have := h3 i w hi
    simp [lg_sl, List.replicate_succ] at this ⊢
    exact this
noncomputable def bi (p : Prop) : Int := by
  classical
  exact if p then 1 else 0
theorem bi_t {p : Prop} (h : p) : bi p = 1 := by unfold bi; exact if_pos h
theorem bi_f {p : Prop} (h : ¬ p) : bi p = 0 := by unfold bi; exact if_neg h
theorem bi_0 {p : Prop} : bi p = 0 ↔ ¬ p := by
  by_cases h : p
  · rw [bi_t h]; exact ⟨fun z => by omega, fun z => absurd h z⟩
  · exact ⟨fun _ => h, fun _ => bi_f h⟩
theorem bi_1 {p : Prop} : bi p = 1 ↔ p := by
  by_cases h : p
  · exact ⟨fun _ => h, fun _ => bi_t h⟩
  · rw [bi_f h]; exact ⟨fun z => by omega, fun z => absurd z h⟩
theorem bi_01 (p : Prop) : bi p = 0 ∨ bi p = 1 := by
  by_cases h : p
  · exact Or.inr (bi_t h)
  · exact Or.inl (bi_f h)
theorem bi_r (p : Prop) : -2147483648 ≤ bi p ∧ bi p ≤ 2147483647 := by
  rcases bi_01 p with h | h <;> omega
theorem bi_c {p q : Prop} (h : p ↔ q) : bi p = bi q := by
  by_cases c : p
  · rw [bi_t c, bi_t (h.mp c)]
  · rw [bi_f c, bi_f (fun z => c (h.mpr z))]
section VSW
variable {Γ : GX} {k n : Nat} {hp : AH} {pc n' : Nat} {L : List (Option Value)} {st : List Value} {cc : ByteArray} {own : String} {ret : Option FieldType} {R : Room}
theorem v_bif_eq (h : Ok0 cc own ret R Γ) {p : Prop} {off : Int} {tgt : Nat} (d : decode cc pc = .ok (.ifCond .eq off, 3)) (ht : (pc : Int) + off = (tgt : Int)) (hn : pc + 3 = n') (kt : ¬ p → V Γ k n hp tgt L st) (kf : p → V Γ k n hp n' L st) : V Γ k n hp pc L (.int (iI (bi p)) :: st) :=
  v_if_eq h d ht hn (bi_r p) (fun z => kt (bi_0.mp z)) (fun z => kf (bi_1.mp ((bi_01 p).resolve_left z)))
theorem v_bif_ne (h : Ok0 cc own ret R Γ) {p : Prop} {off : Int} {tgt : Nat} (d : decode cc pc = .ok (.ifCond .ne off, 3)) (ht : (pc : Int) + off = (tgt : Int)) (hn : pc + 3 = n') (kt : p → V Γ k n hp tgt L st) (kf : ¬ p → V Γ k n hp n' L st) : V Γ k n hp pc L (.int (iI (bi p)) :: st) :=
  v_if_ne h d ht hn (bi_r p) (fun z => kt (bi_1.mp ((bi_01 p).resolve_left z))) (fun z => kf (bi_0.mp z))
theorem v_cif_eq (h : Ok0 cc own ret R Γ) {x y : Int} {off : Int} {tgt : Nat} (d : decode cc pc = .ok (.ifCond .eq off, 3)) (ht : (pc : Int) + off = (tgt : Int)) (hn : pc + 3 = n') (kt : x = y → V Γ k n hp tgt L st) (kf : ¬ x = y → V Γ k n hp n' L st) : V Γ k n hp pc L (.int (iI (lcv x y)) :: st) :=
  v_if_eq h d ht hn (lcv_r x y) (fun z => kt (by unfold lcv at z; split at z <;> first | omega | (split at z <;> omega))) (fun z => kf (by unfold lcv at z; split at z <;> first | omega | (split at z <;> omega)))
theorem v_cif_ne (h : Ok0 cc own ret R Γ) {x y : Int} {off : Int} {tgt : Nat} (d : decode cc pc = .ok (.ifCond .ne off, 3)) (ht : (pc : Int) + off = (tgt : Int)) (hn : pc + 3 = n') (kt : ¬ x = y → V Γ k n hp tgt L st) (kf : x = y → V Γ k n hp n' L st) : V Γ k n hp pc L (.int (iI (lcv x y)) :: st) :=
  v_if_ne h d ht hn (lcv_r x y) (fun z => kt (by unfold lcv at z; split at z <;> first | omega | (split at z <;> omega))) (fun z => kf (by unfold lcv at z; split at z <;> first | omega | (split at z <;> omega)))
theorem v_cif_lt (h : Ok0 cc own ret R Γ) {x y : Int} {off : Int} {tgt : Nat} (d : decode cc pc = .ok (.ifCond .lt off, 3)) (ht : (pc : Int) + off = (tgt : Int)) (hn : pc + 3 = n') (kt : x < y → V Γ k n hp tgt L st) (kf : ¬ x < y → V Γ k n hp n' L st) : V Γ k n hp pc L (.int (iI (lcv x y)) :: st) :=
  v_if_lt h d ht hn (lcv_r x y) (fun z => kt (by unfold lcv at z; split at z <;> first | omega | (split at z <;> omega))) (fun z => kf (by unfold lcv at z; split at z <;> first | omega | (split at z <;> omega)))
theorem v_cif_ge (h : Ok0 cc own ret R Γ) {x y : Int} {off : Int} {tgt : Nat} (d : decode cc pc = .ok (.ifCond .ge off, 3)) (ht : (pc : Int) + off = (tgt : Int)) (hn : pc + 3 = n') (kt : y ≤ x → V Γ k n hp tgt L st) (kf : ¬ y ≤ x → V Γ k n hp n' L st) : V Γ k n hp pc L (.int (iI (lcv x y)) :: st) :=
  v_if_ge h d ht hn (lcv_r x y) (fun z => kt (by unfold lcv at z; split at z <;> first | omega | (split at z <;> omega))) (fun z => kf (by unfold lcv at z; split at z <;> first | omega | (split at z <;> omega)))
theorem v_cif_gt (h : Ok0 cc own ret R Γ) {x y : Int} {off : Int} {tgt : Nat} (d : decode cc pc = .ok (.ifCond .gt off, 3)) (ht : (pc : Int) + off = (tgt : Int)) (hn : pc + 3 = n') (kt : y < x → V Γ k n hp tgt L st) (kf : ¬ y < x → V Γ k n hp n' L st) : V Γ k n hp pc L (.int (iI (lcv x y)) :: st) :=
  v_if_gt h d ht hn (lcv_r x y) (fun z => kt (by unfold lcv at z; split at z <;> first | omega | (split at z <;> omega))) (fun z => kf (by unfold lcv at z; split at z <;> first | omega | (split at z <;> omega)))
theorem v_cif_le (h : Ok0 cc own ret R Γ) {x y : Int} {off : Int} {tgt : Nat} (d : decode cc pc = .ok (.ifCond .le off, 3)) (ht : (pc : Int) + off = (tgt : Int)) (hn : pc + 3 = n') (kt : x ≤ y → V Γ k n hp tgt L st) (kf : ¬ x ≤ y → V Γ k n hp n' L st) : V Γ k n hp pc L (.int (iI (lcv x y)) :: st) :=
  v_if_le h d ht hn (lcv_r x y) (fun z => kt (by unfold lcv at z; split at z <;> first | omega | (split at z <;> omega))) (fun z => kf (by unfold lcv at z; split at z <;> first | omega | (split at z <;> omega)))
theorem v_table4 {x df : Int} {o0 o1 o2 o3 : Int} {t0 t1 t2 t3 td len : Nat} (h : Ok0 cc own ret R Γ) (d : decode cc pc = .ok (.tableswitch df 0 3 #[o0, o1, o2, o3], len)) (hx : -2147483648 ≤ x ∧ x ≤ 2147483647) (_ : True = True) (h0 : (pc : Int) + o0 = (t0 : Int)) (h1 : (pc : Int) + o1 = (t1 : Int)) (h2 : (pc : Int) + o2 = (t2 : Int)) (h3 : (pc : Int) + o3 = (t3 : Int)) (hd : (pc : Int) + df = (td : Int)) (k0 : x = 0 → V Γ k n hp t0 L st) (k1 : x = 1 → V Γ k n hp t1 L st) (k2 : x = 2 → V Γ k n hp t2 L st) (k3 : x = 3 → V Γ k n hp t3 L st) (kd : x < 0 ∨ 3 < x → V Γ k n hp td L st) : V Γ k n hp pc L (.int (iI x) :: st) := by
  by_cases c : x < 0 ∨ 3 < x
  · exact v_tableOut h d hx c hd (kd c)
  · have hc : x = 0 ∨ x = 1 ∨ x = 2 ∨ x = 3 := by omega
    rcases hc with rfl | rfl | rfl | rfl
    · exact v_tableIn (off := o0) h d hx (by omega) (by omega) rfl h0 (k0 rfl)
    · exact v_tableIn (off := o1) h d hx (by omega) (by omega) rfl h1 (k1 rfl)
    · exact v_tableIn (off := o2) h d hx (by omega) (by omega) rfl h2 (k2 rfl)
    · exact v_tableIn (off := o3) h d hx (by omega) (by omega) rfl h3 (k3 rfl)
theorem v_table5 {x df : Int} {o0 o1 o2 o3 o4 : Int} {t0 t1 t2 t3 t4 td len : Nat} (h : Ok0 cc own ret R Γ) (d : decode cc pc = .ok (.tableswitch df 0 4 #[o0, o1, o2, o3, o4], len)) (hx : -2147483648 ≤ x ∧ x ≤ 2147483647) (_ : True = True) (h0 : (pc : Int) + o0 = (t0 : Int)) (h1 : (pc : Int) + o1 = (t1 : Int)) (h2 : (pc : Int) + o2 = (t2 : Int)) (h3 : (pc : Int) + o3 = (t3 : Int)) (h4 : (pc : Int) + o4 = (t4 : Int)) (hd : (pc : Int) + df = (td : Int)) (k0 : x = 0 → V Γ k n hp t0 L st) (k1 : x = 1 → V Γ k n hp t1 L st) (k2 : x = 2 → V Γ k n hp t2 L st) (k3 : x = 3 → V Γ k n hp t3 L st) (k4 : x = 4 → V Γ k n hp t4 L st) (kd : x < 0 ∨ 4 < x → V Γ k n hp td L st) : V Γ k n hp pc L (.int (iI x) :: st) := by
  by_cases c : x < 0 ∨ 4 < x
  · exact v_tableOut h d hx c hd (kd c)
  · have hc : x = 0 ∨ x = 1 ∨ x = 2 ∨ x = 3 ∨ x = 4 := by omega
    rcases hc with rfl | rfl | rfl | rfl | rfl
    · exact v_tableIn (off := o0) h d hx (by omega) (by omega) rfl h0 (k0 rfl)
    · exact v_tableIn (off := o1) h d hx (by omega) (by omega) rfl h1 (k1 rfl)
    · exact v_tableIn (off := o2) h d hx (by omega) (by omega) rfl h2 (k2 rfl)
    · exact v_tableIn (off := o3) h d hx (by omega) (by omega) rfl h3 (k3 rfl)
    · exact v_tableIn (off := o4) h d hx (by omega) (by omega) rfl h4 (k4 rfl)
theorem v_table7 {x df : Int} {o0 o1 o2 o3 o4 o5 o6 : Int} {t0 t1 t2 t3 t4 t5 t6 td len : Nat} (h : Ok0 cc own ret R Γ) (d : decode cc pc = .ok (.tableswitch df 0 6 #[o0, o1, o2, o3, o4, o5, o6], len)) (hx : -2147483648 ≤ x ∧ x ≤ 2147483647) (_ : True = True) (h0 : (pc : Int) + o0 = (t0 : Int)) (h1 : (pc : Int) + o1 = (t1 : Int)) (h2 : (pc : Int) + o2 = (t2 : Int)) (h3 : (pc : Int) + o3 = (t3 : Int)) (h4 : (pc : Int) + o4 = (t4 : Int)) (h5 : (pc : Int) + o5 = (t5 : Int)) (h6 : (pc : Int) + o6 = (t6 : Int)) (hd : (pc : Int) + df = (td : Int)) (k0 : x = 0 → V Γ k n hp t0 L st) (k1 : x = 1 → V Γ k n hp t1 L st) (k2 : x = 2 → V Γ k n hp t2 L st) (k3 : x = 3 → V Γ k n hp t3 L st) (k4 : x = 4 → V Γ k n hp t4 L st) (k5 : x = 5 → V Γ k n hp t5 L st) (k6 : x = 6 → V Γ k n hp t6 L st) (kd : x < 0 ∨ 6 < x → V Γ k n hp td L st) : V Γ k n hp pc L (.int (iI x) :: st) := by
  by_cases c : x < 0 ∨ 6 < x
  · exact v_tableOut h d hx c hd (kd c)
  · have hc : x = 0 ∨ x = 1 ∨ x = 2 ∨ x = 3 ∨ x = 4 ∨ x = 5 ∨ x = 6 := by omega
    rcases hc with rfl | rfl | rfl | rfl | rfl | rfl | rfl
    · exact v_tableIn (off := o0) h d hx (by omega) (by omega) rfl h0 (k0 rfl)
    · exact v_tableIn (off := o1) h d hx (by omega) (by omega) rfl h1 (k1 rfl)
    · exact v_tableIn (off := o2) h d hx (by omega) (by omega) rfl h2 (k2 rfl)
    · exact v_tableIn (off := o3) h d hx (by omega) (by omega) rfl h3 (k3 rfl)
    · exact v_tableIn (off := o4) h d hx (by omega) (by omega) rfl h4 (k4 rfl)
    · exact v_tableIn (off := o5) h d hx (by omega) (by omega) rfl h5 (k5 rfl)
    · exact v_tableIn (off := o6) h d hx (by omega) (by omega) rfl h6 (k6 rfl)
theorem v_table8 {x df : Int} {o0 o1 o2 o3 o4 o5 o6 o7 : Int} {t0 t1 t2 t3 t4 t5 t6 t7 td len : Nat} (h : Ok0 cc own ret R Γ) (d : decode cc pc = .ok (.tableswitch df 0 7 #[o0, o1, o2, o3, o4, o5, o6, o7], len)) (hx : -2147483648 ≤ x ∧ x ≤ 2147483647) (_ : True = True) (h0 : (pc : Int) + o0 = (t0 : Int)) (h1 : (pc : Int) + o1 = (t1 : Int)) (h2 : (pc : Int) + o2 = (t2 : Int)) (h3 : (pc : Int) + o3 = (t3 : Int)) (h4 : (pc : Int) + o4 = (t4 : Int)) (h5 : (pc : Int) + o5 = (t5 : Int)) (h6 : (pc : Int) + o6 = (t6 : Int)) (h7 : (pc : Int) + o7 = (t7 : Int)) (hd : (pc : Int) + df = (td : Int)) (k0 : x = 0 → V Γ k n hp t0 L st) (k1 : x = 1 → V Γ k n hp t1 L st) (k2 : x = 2 → V Γ k n hp t2 L st) (k3 : x = 3 → V Γ k n hp t3 L st) (k4 : x = 4 → V Γ k n hp t4 L st) (k5 : x = 5 → V Γ k n hp t5 L st) (k6 : x = 6 → V Γ k n hp t6 L st) (k7 : x = 7 → V Γ k n hp t7 L st) (kd : x < 0 ∨ 7 < x → V Γ k n hp td L st) : V Γ k n hp pc L (.int (iI x) :: st) := by
  by_cases c : x < 0 ∨ 7 < x
  · exact v_tableOut h d hx c hd (kd c)
  · have hc : x = 0 ∨ x = 1 ∨ x = 2 ∨ x = 3 ∨ x = 4 ∨ x = 5 ∨ x = 6 ∨ x = 7 := by omega
    rcases hc with rfl | rfl | rfl | rfl | rfl | rfl | rfl | rfl
    · exact v_tableIn (off := o0) h d hx (by omega) (by omega) rfl h0 (k0 rfl)
    · exact v_tableIn (off := o1) h d hx (by omega) (by omega) rfl h1 (k1 rfl)
    · exact v_tableIn (off := o2) h d hx (by omega) (by omega) rfl h2 (k2 rfl)
    · exact v_tableIn (off := o3) h d hx (by omega) (by omega) rfl h3 (k3 rfl)
    · exact v_tableIn (off := o4) h d hx (by omega) (by omega) rfl h4 (k4 rfl)
    · exact v_tableIn (off := o5) h d hx (by omega) (by omega) rfl h5 (k5 rfl)
    · exact v_tableIn (off := o6) h d hx (by omega) (by omega) rfl h6 (k6 rfl)
    · exact v_tableIn (off := o7) h d hx (by omega) (by omega) rfl h7 (k7 rfl)
theorem v_table25 {x df : Int} {o0 o1 o2 o3 o4 o5 o6 o7 o8 o9 o10 o11 o12 o13 o14 o15 o16 o17 o18 o19 o20 o21 o22 o23 o24 : Int} {t0 t1 t2 t3 t4 t5 t6 t7 t8 t9 t10 t11 t12 t13 t14 t15 t16 t17 t18 t19 t20 t21 t22 t23 t24 td len : Nat} (h : Ok0 cc own ret R Γ) (d : decode cc pc = .ok (.tableswitch df 0 24 #[o0, o1, o2, o3, o4, o5, o6, o7, o8, o9, o10, o11, o12, o13, o14, o15, o16, o17, o18, o19, o20, o21, o22, o23, o24], len)) (hx : -2147483648 ≤ x ∧ x ≤ 2147483647) (_ : True = True) (h0 : (pc : Int) + o0 = (t0 : Int)) (h1 : (pc : Int) + o1 = (t1 : Int)) (h2 : (pc : Int) + o2 = (t2 : Int)) (h3 : (pc : Int) + o3 = (t3 : Int)) (h4 : (pc : Int) + o4 = (t4 : Int)) (h5 : (pc : Int) + o5 = (t5 : Int)) (h6 : (pc : Int) + o6 = (t6 : Int)) (h7 : (pc : Int) + o7 = (t7 : Int)) (h8 : (pc : Int) + o8 = (t8 : Int)) (h9 : (pc : Int) + o9 = (t9 : Int)) (h10 : (pc : Int) + o10 = (t10 : Int)) (h11 : (pc : Int) + o11 = (t11 : Int)) (h12 : (pc : Int) + o12 = (t12 : Int)) (h13 : (pc : Int) + o13 = (t13 : Int)) (h14 : (pc : Int) + o14 = (t14 : Int)) (h15 : (pc : Int) + o15 = (t15 : Int)) (h16 : (pc : Int) + o16 = (t16 : Int)) (h17 : (pc : Int) + o17 = (t17 : Int)) (h18 : (pc : Int) + o18 = (t18 : Int)) (h19 : (pc : Int) + o19 = (t19 : Int)) (h20 : (pc : Int) + o20 = (t20 : Int)) (h21 : (pc : Int) + o21 = (t21 : Int)) (h22 : (pc : Int) + o22 = (t22 : Int)) (h23 : (pc : Int) + o23 = (t23 : Int)) (h24 : (pc : Int) + o24 = (t24 : Int)) (hd : (pc : Int) + df = (td : Int)) (k0 : x = 0 → V Γ k n hp t0 L st) (k1 : x = 1 → V Γ k n hp t1 L st) (k2 : x = 2 → V Γ k n hp t2 L st) (k3 : x = 3 → V Γ k n hp t3 L st) (k4 : x = 4 → V Γ k n hp t4 L st) (k5 : x = 5 → V Γ k n hp t5 L st) (k6 : x = 6 → V Γ k n hp t6 L st) (k7 : x = 7 → V Γ k n hp t7 L st) (k8 : x = 8 → V Γ k n hp t8 L st) (k9 : x = 9 → V Γ k n hp t9 L st) (k10 : x = 10 → V Γ k n hp t10 L st) (k11 : x = 11 → V Γ k n hp t11 L st) (k12 : x = 12 → V Γ k n hp t12 L st) (k13 : x = 13 → V Γ k n hp t13 L st) (k14 : x = 14 → V Γ k n hp t14 L st) (k15 : x = 15 → V Γ k n hp t15 L st) (k16 : x = 16 → V Γ k n hp t16 L st) (k17 : x = 17 → V Γ k n hp t17 L st) (k18 : x = 18 → V Γ k n hp t18 L st) (k19 : x = 19 → V Γ k n hp t19 L st) (k20 : x = 20 → V Γ k n hp t20 L st) (k21 : x = 21 → V Γ k n hp t21 L st) (k22 : x = 22 → V Γ k n hp t22 L st) (k23 : x = 23 → V Γ k n hp t23 L st) (k24 : x = 24 → V Γ k n hp t24 L st) (kd : x < 0 ∨ 24 < x → V Γ k n hp td L st) : V Γ k n hp pc L (.int (iI x) :: st) := by
  by_cases c : x < 0 ∨ 24 < x
  · exact v_tableOut h d hx c hd (kd c)
  · have hc : x = 0 ∨ x = 1 ∨ x = 2 ∨ x = 3 ∨ x = 4 ∨ x = 5 ∨ x = 6 ∨ x = 7 ∨ x = 8 ∨ x = 9 ∨ x = 10 ∨ x = 11 ∨ x = 12 ∨ x = 13 ∨ x = 14 ∨ x = 15 ∨ x = 16 ∨ x = 17 ∨ x = 18 ∨ x = 19 ∨ x = 20 ∨ x = 21 ∨ x = 22 ∨ x = 23 ∨ x = 24 := by omega
    rcases hc with rfl | rfl | rfl | rfl | rfl | rfl | rfl | rfl | rfl | rfl | rfl | rfl | rfl | rfl | rfl | rfl | rfl | rfl | rfl | rfl | rfl | rfl | rfl | rfl | rfl
    · exact v_tableIn (off := o0) h d hx (by omega) (by omega) rfl h0 (k0 rfl)
    · exact v_tableIn (off := o1) h d hx (by omega) (by omega) rfl h1 (k1 rfl)
    · exact v_tableIn (off := o2) h d hx (by omega) (by omega) rfl h2 (k2 rfl)
    · exact v_tableIn (off := o3) h d hx (by omega) (by omega) rfl h3 (k3 rfl)
    · exact v_tableIn (off := o4) h d hx (by omega) (by omega) rfl h4 (k4 rfl)
    · exact v_tableIn (off := o5) h d hx (by omega) (by omega) rfl h5 (k5 rfl)
    · exact v_tableIn (off := o6) h d hx (by omega) (by omega) rfl h6 (k6 rfl)
    · exact v_tableIn (off := o7) h d hx (by omega) (by omega) rfl h7 (k7 rfl)
    · exact v_tableIn (off := o8) h d hx (by omega) (by omega) rfl h8 (k8 rfl)
    · exact v_tableIn (off := o9) h d hx (by omega) (by omega) rfl h9 (k9 rfl)
    · exact v_tableIn (off := o10) h d hx (by omega) (by omega) rfl h10 (k10 rfl)
    · exact v_tableIn (off := o11) h d hx (by omega) (by omega) rfl h11 (k11 rfl)
    · exact v_tableIn (off := o12) h d hx (by omega) (by omega) rfl h12 (k12 rfl)
    · exact v_tableIn (off := o13) h d hx (by omega) (by omega) rfl h13 (k13 rfl)
    · exact v_tableIn (off := o14) h d hx (by omega) (by omega) rfl h14 (k14 rfl)
    · exact v_tableIn (off := o15) h d hx (by omega) (by omega) rfl h15 (k15 rfl)
    · exact v_tableIn (off := o16) h d hx (by omega) (by omega) rfl h16 (k16 rfl)
    · exact v_tableIn (off := o17) h d hx (by omega) (by omega) rfl h17 (k17 rfl)
    · exact v_tableIn (off := o18) h d hx (by omega) (by omega) rfl h18 (k18 rfl)
    · exact v_tableIn (off := o19) h d hx (by omega) (by omega) rfl h19 (k19 rfl)
    · exact v_tableIn (off := o20) h d hx (by omega) (by omega) rfl h20 (k20 rfl)
    · exact v_tableIn (off := o21) h d hx (by omega) (by omega) rfl h21 (k21 rfl)
    · exact v_tableIn (off := o22) h d hx (by omega) (by omega) rfl h22 (k22 rfl)
    · exact v_tableIn (off := o23) h d hx (by omega) (by omega) rfl h23 (k23 rfl)
    · exact v_tableIn (off := o24) h d hx (by omega) (by omega) rfl h24 (k24 rfl)
theorem v_look5 {x df : Int} {o0 c0 o1 c1 o2 c2 o3 c3 o4 c4 : Int} {t0 t1 t2 t3 t4 td len : Nat} (h : Ok0 cc own ret R Γ) (d : decode cc pc = .ok (.lookupswitch df #[(c0, o0), (c1, o1), (c2, o2), (c3, o3), (c4, o4)], len)) (hx : -2147483648 ≤ x ∧ x ≤ 2147483647) (hs : ((#[(c0, o0), (c1, o1), (c2, o2), (c3, o3), (c4, o4)] : Array (Int × Int)).toList.zip ((#[(c0, o0), (c1, o1), (c2, o2), (c3, o3), (c4, o4)] : Array (Int × Int)).toList.drop 1)).all (fun (a, next) => a.1 < next.1) = true) (h0 : (pc : Int) + o0 = (t0 : Int)) (h1 : (pc : Int) + o1 = (t1 : Int)) (h2 : (pc : Int) + o2 = (t2 : Int)) (h3 : (pc : Int) + o3 = (t3 : Int)) (h4 : (pc : Int) + o4 = (t4 : Int)) (hd : (pc : Int) + df = (td : Int)) (k0 : x = c0 → V Γ k n hp t0 L st) (k1 : x = c1 → V Γ k n hp t1 L st) (k2 : x = c2 → V Γ k n hp t2 L st) (k3 : x = c3 → V Γ k n hp t3 L st) (k4 : x = c4 → V Γ k n hp t4 L st) (kd : x ≠ c0 ∧ x ≠ c1 ∧ x ≠ c2 ∧ x ≠ c3 ∧ x ≠ c4 → V Γ k n hp td L st) : V Γ k n hp pc L (.int (iI x) :: st) := by
  by_cases e : x = c0
  · exact v_lookup (off := o0) h d hx hs (by simp only [Array.toList]; rw [Op.lookupswitch.offset_cons, if_pos e.symm]) h0 (k0 e)
  · have q0 := e
    by_cases e : x = c1
    · exact v_lookup (off := o1) h d hx hs (by simp only [Array.toList]; rw [Op.lookupswitch.offset_cons, if_neg (Ne.symm q0), Op.lookupswitch.offset_cons, if_pos e.symm]) h1 (k1 e)
    · have q1 := e
      by_cases e : x = c2
      · exact v_lookup (off := o2) h d hx hs (by simp only [Array.toList]; rw [Op.lookupswitch.offset_cons, if_neg (Ne.symm q0), Op.lookupswitch.offset_cons, if_neg (Ne.symm q1), Op.lookupswitch.offset_cons, if_pos e.symm]) h2 (k2 e)
      · have q2 := e
        by_cases e : x = c3
        · exact v_lookup (off := o3) h d hx hs (by simp only [Array.toList]; rw [Op.lookupswitch.offset_cons, if_neg (Ne.symm q0), Op.lookupswitch.offset_cons, if_neg (Ne.symm q1), Op.lookupswitch.offset_cons, if_neg (Ne.symm q2), Op.lookupswitch.offset_cons, if_pos e.symm]) h3 (k3 e)
        · have q3 := e
          by_cases e : x = c4
          · exact v_lookup (off := o4) h d hx hs (by simp only [Array.toList]; rw [Op.lookupswitch.offset_cons, if_neg (Ne.symm q0), Op.lookupswitch.offset_cons, if_neg (Ne.symm q1), Op.lookupswitch.offset_cons, if_neg (Ne.symm q2), Op.lookupswitch.offset_cons, if_neg (Ne.symm q3), Op.lookupswitch.offset_cons, if_pos e.symm]) h4 (k4 e)
          · have q4 := e
            exact v_lookup (off := df) h d hx hs (by simp only [Array.toList]; rw [Op.lookupswitch.offset_cons, if_neg (Ne.symm q0), Op.lookupswitch.offset_cons, if_neg (Ne.symm q1), Op.lookupswitch.offset_cons, if_neg (Ne.symm q2), Op.lookupswitch.offset_cons, if_neg (Ne.symm q3), Op.lookupswitch.offset_cons, if_neg (Ne.symm q4)]; rfl) hd (kd ⟨q0, q1, q2, q3, q4⟩)
end VSW
theorem hdJ0_init : yJ0_init.cls ≠ "java/lang/invoke/MethodHandle" ∧ yJ0_init.cls ≠ "java/lang/invoke/VarHandle" ∧ (parseMethodDescriptor yJ0_init.desc).map (fun d => d.parameters.length) = some 0 := by decide +kernel
theorem hdJ10_bitCount : yJ10_bitCount.cls ≠ "java/lang/invoke/MethodHandle" ∧ yJ10_bitCount.cls ≠ "java/lang/invoke/VarHandle" ∧ (parseMethodDescriptor yJ10_bitCount.desc).map (fun d => d.parameters.length) = some 1 := by decide +kernel
theorem hdJ11_init : yJ11_init.cls ≠ "java/lang/invoke/MethodHandle" ∧ yJ11_init.cls ≠ "java/lang/invoke/VarHandle" ∧ (parseMethodDescriptor yJ11_init.desc).map (fun d => d.parameters.length) = some 0 := by decide +kernel
theorem hdJ1_init : yJ1_init.cls ≠ "java/lang/invoke/MethodHandle" ∧ yJ1_init.cls ≠ "java/lang/invoke/VarHandle" ∧ (parseMethodDescriptor yJ1_init.desc).map (fun d => d.parameters.length) = some 0 := by decide +kernel
theorem hdJ2_add : yJ2_add.cls ≠ "java/lang/invoke/MethodHandle" ∧ yJ2_add.cls ≠ "java/lang/invoke/VarHandle" ∧ (parseMethodDescriptor yJ2_add.desc).map (fun d => d.parameters.length) = some 1 := by decide +kernel
theorem hdJ2_add_2 : yJ2_add_2.cls ≠ "java/lang/invoke/MethodHandle" ∧ yJ2_add_2.cls ≠ "java/lang/invoke/VarHandle" ∧ (parseMethodDescriptor yJ2_add_2.desc).map (fun d => d.parameters.length) = some 3 := by decide +kernel
theorem hdJ2_elementData : yJ2_elementData.cls ≠ "java/lang/invoke/MethodHandle" ∧ yJ2_elementData.cls ≠ "java/lang/invoke/VarHandle" ∧ (parseMethodDescriptor yJ2_elementData.desc).map (fun d => d.parameters.length) = some 1 := by decide +kernel
theorem hdJ2_get : yJ2_get.cls ≠ "java/lang/invoke/MethodHandle" ∧ yJ2_get.cls ≠ "java/lang/invoke/VarHandle" ∧ (parseMethodDescriptor yJ2_get.desc).map (fun d => d.parameters.length) = some 1 := by decide +kernel
theorem hdJ2_grow : yJ2_grow.cls ≠ "java/lang/invoke/MethodHandle" ∧ yJ2_grow.cls ≠ "java/lang/invoke/VarHandle" ∧ (parseMethodDescriptor yJ2_grow.desc).map (fun d => d.parameters.length) = some 0 := by decide +kernel
theorem hdJ2_grow_2 : yJ2_grow_2.cls ≠ "java/lang/invoke/MethodHandle" ∧ yJ2_grow_2.cls ≠ "java/lang/invoke/VarHandle" ∧ (parseMethodDescriptor yJ2_grow_2.desc).map (fun d => d.parameters.length) = some 1 := by decide +kernel
theorem hdJ2_init : yJ2_init.cls ≠ "java/lang/invoke/MethodHandle" ∧ yJ2_init.cls ≠ "java/lang/invoke/VarHandle" ∧ (parseMethodDescriptor yJ2_init.desc).map (fun d => d.parameters.length) = some 0 := by decide +kernel
theorem hdJ2_size : yJ2_size.cls ≠ "java/lang/invoke/MethodHandle" ∧ yJ2_size.cls ≠ "java/lang/invoke/VarHandle" ∧ (parseMethodDescriptor yJ2_size.desc).map (fun d => d.parameters.length) = some 0 := by decide +kernel
theorem hdJ3_init : yJ3_init.cls ≠ "java/lang/invoke/MethodHandle" ∧ yJ3_init.cls ≠ "java/lang/invoke/VarHandle" ∧ (parseMethodDescriptor yJ3_init.desc).map (fun d => d.parameters.length) = some 0 := by decide +kernel
theorem hdJ3_init_2 : yJ3_init_2.cls ≠ "java/lang/invoke/MethodHandle" ∧ yJ3_init_2.cls ≠ "java/lang/invoke/VarHandle" ∧ (parseMethodDescriptor yJ3_init_2.desc).map (fun d => d.parameters.length) = some 4 := by decide +kernel
theorem hdJ4_init : yJ4_init.cls ≠ "java/lang/invoke/MethodHandle" ∧ yJ4_init.cls ≠ "java/lang/invoke/VarHandle" ∧ (parseMethodDescriptor yJ4_init.desc).map (fun d => d.parameters.length) = some 4 := by decide +kernel
theorem hdJ5_max : yJ5_max.cls ≠ "java/lang/invoke/MethodHandle" ∧ yJ5_max.cls ≠ "java/lang/invoke/VarHandle" ∧ (parseMethodDescriptor yJ5_max.desc).map (fun d => d.parameters.length) = some 2 := by decide +kernel
theorem hdJ5_min : yJ5_min.cls ≠ "java/lang/invoke/MethodHandle" ∧ yJ5_min.cls ≠ "java/lang/invoke/VarHandle" ∧ (parseMethodDescriptor yJ5_min.desc).map (fun d => d.parameters.length) = some 2 := by decide +kernel
theorem hdJ6_checkIndex : yJ6_checkIndex.cls ≠ "java/lang/invoke/MethodHandle" ∧ yJ6_checkIndex.cls ≠ "java/lang/invoke/VarHandle" ∧ (parseMethodDescriptor yJ6_checkIndex.desc).map (fun d => d.parameters.length) = some 2 := by decide +kernel
theorem hdJ7_checkIndex : yJ7_checkIndex.cls ≠ "java/lang/invoke/MethodHandle" ∧ yJ7_checkIndex.cls ≠ "java/lang/invoke/VarHandle" ∧ (parseMethodDescriptor yJ7_checkIndex.desc).map (fun d => d.parameters.length) = some 3 := by decide +kernel
theorem hdJ8_hugeLength : yJ8_hugeLength.cls ≠ "java/lang/invoke/MethodHandle" ∧ yJ8_hugeLength.cls ≠ "java/lang/invoke/VarHandle" ∧ (parseMethodDescriptor yJ8_hugeLength.desc).map (fun d => d.parameters.length) = some 2 := by decide +kernel
theorem hdJ8_newLength : yJ8_newLength.cls ≠ "java/lang/invoke/MethodHandle" ∧ yJ8_newLength.cls ≠ "java/lang/invoke/VarHandle" ∧ (parseMethodDescriptor yJ8_newLength.desc).map (fun d => d.parameters.length) = some 3 := by decide +kernel
theorem hdJ9_copyOf : yJ9_copyOf.cls ≠ "java/lang/invoke/MethodHandle" ∧ yJ9_copyOf.cls ≠ "java/lang/invoke/VarHandle" ∧ (parseMethodDescriptor yJ9_copyOf.desc).map (fun d => d.parameters.length) = some 2 := by decide +kernel
theorem hdJ9_copyOf_2 : yJ9_copyOf_2.cls ≠ "java/lang/invoke/MethodHandle" ∧ yJ9_copyOf_2.cls ≠ "java/lang/invoke/VarHandle" ∧ (parseMethodDescriptor yJ9_copyOf_2.desc).map (fun d => d.parameters.length) = some 3 := by decide +kernel
theorem hdX0_above : yX0_above.cls ≠ "java/lang/invoke/MethodHandle" ∧ yX0_above.cls ≠ "java/lang/invoke/VarHandle" ∧ (parseMethodDescriptor yX0_above.desc).map (fun d => d.parameters.length) = some 1 := by decide +kernel
theorem hdX0_ahead : yX0_ahead.cls ≠ "java/lang/invoke/MethodHandle" ∧ yX0_ahead.cls ≠ "java/lang/invoke/VarHandle" ∧ (parseMethodDescriptor yX0_ahead.desc).map (fun d => d.parameters.length) = some 0 := by decide +kernel
theorem hdX0_aheadTold : yX0_aheadTold.cls ≠ "java/lang/invoke/MethodHandle" ∧ yX0_aheadTold.cls ≠ "java/lang/invoke/VarHandle" ∧ (parseMethodDescriptor yX0_aheadTold.desc).map (fun d => d.parameters.length) = some 0 := by decide +kernel
theorem hdX0_as : yX0_as.cls ≠ "java/lang/invoke/MethodHandle" ∧ yX0_as.cls ≠ "java/lang/invoke/VarHandle" ∧ (parseMethodDescriptor yX0_as.desc).map (fun d => d.parameters.length) = some 2 := by decide +kernel
theorem hdX0_askOf : yX0_askOf.cls ≠ "java/lang/invoke/MethodHandle" ∧ yX0_askOf.cls ≠ "java/lang/invoke/VarHandle" ∧ (parseMethodDescriptor yX0_askOf.desc).map (fun d => d.parameters.length) = some 1 := by decide +kernel
theorem hdX0_at : yX0_at.cls ≠ "java/lang/invoke/MethodHandle" ∧ yX0_at.cls ≠ "java/lang/invoke/VarHandle" ∧ (parseMethodDescriptor yX0_at.desc).map (fun d => d.parameters.length) = some 1 := by decide +kernel
theorem hdX0_blank : yX0_blank.cls ≠ "java/lang/invoke/MethodHandle" ∧ yX0_blank.cls ≠ "java/lang/invoke/VarHandle" ∧ (parseMethodDescriptor yX0_blank.desc).map (fun d => d.parameters.length) = some 0 := by decide +kernel
theorem hdX0_copyOf : yX0_copyOf.cls ≠ "java/lang/invoke/MethodHandle" ∧ yX0_copyOf.cls ≠ "java/lang/invoke/VarHandle" ∧ (parseMethodDescriptor yX0_copyOf.desc).map (fun d => d.parameters.length) = some 1 := by decide +kernel
theorem hdX0_count : yX0_count.cls ≠ "java/lang/invoke/MethodHandle" ∧ yX0_count.cls ≠ "java/lang/invoke/VarHandle" ∧ (parseMethodDescriptor yX0_count.desc).map (fun d => d.parameters.length) = some 1 := by decide +kernel
theorem hdX0_countOf : yX0_countOf.cls ≠ "java/lang/invoke/MethodHandle" ∧ yX0_countOf.cls ≠ "java/lang/invoke/VarHandle" ∧ (parseMethodDescriptor yX0_countOf.desc).map (fun d => d.parameters.length) = some 1 := by decide +kernel
theorem hdX0_dear : yX0_dear.cls ≠ "java/lang/invoke/MethodHandle" ∧ yX0_dear.cls ≠ "java/lang/invoke/VarHandle" ∧ (parseMethodDescriptor yX0_dear.desc).map (fun d => d.parameters.length) = some 1 := by decide +kernel
theorem hdX0_dearTold : yX0_dearTold.cls ≠ "java/lang/invoke/MethodHandle" ∧ yX0_dearTold.cls ≠ "java/lang/invoke/VarHandle" ∧ (parseMethodDescriptor yX0_dearTold.desc).map (fun d => d.parameters.length) = some 1 := by decide +kernel
theorem hdX0_digest : yX0_digest.cls ≠ "java/lang/invoke/MethodHandle" ∧ yX0_digest.cls ≠ "java/lang/invoke/VarHandle" ∧ (parseMethodDescriptor yX0_digest.desc).map (fun d => d.parameters.length) = some 0 := by decide +kernel
theorem hdX0_draw : yX0_draw.cls ≠ "java/lang/invoke/MethodHandle" ∧ yX0_draw.cls ≠ "java/lang/invoke/VarHandle" ∧ (parseMethodDescriptor yX0_draw.desc).map (fun d => d.parameters.length) = some 1 := by decide +kernel
theorem hdX0_drawn : yX0_drawn.cls ≠ "java/lang/invoke/MethodHandle" ∧ yX0_drawn.cls ≠ "java/lang/invoke/VarHandle" ∧ (parseMethodDescriptor yX0_drawn.desc).map (fun d => d.parameters.length) = some 3 := by decide +kernel
theorem hdX0_drawnTold : yX0_drawnTold.cls ≠ "java/lang/invoke/MethodHandle" ∧ yX0_drawnTold.cls ≠ "java/lang/invoke/VarHandle" ∧ (parseMethodDescriptor yX0_drawnTold.desc).map (fun d => d.parameters.length) = some 3 := by decide +kernel
theorem hdX0_entry : yX0_entry.cls ≠ "java/lang/invoke/MethodHandle" ∧ yX0_entry.cls ≠ "java/lang/invoke/VarHandle" ∧ (parseMethodDescriptor yX0_entry.desc).map (fun d => d.parameters.length) = some 2 := by decide +kernel
theorem hdX0_entryTold : yX0_entryTold.cls ≠ "java/lang/invoke/MethodHandle" ∧ yX0_entryTold.cls ≠ "java/lang/invoke/VarHandle" ∧ (parseMethodDescriptor yX0_entryTold.desc).map (fun d => d.parameters.length) = some 2 := by decide +kernel
theorem hdX0_fault : yX0_fault.cls ≠ "java/lang/invoke/MethodHandle" ∧ yX0_fault.cls ≠ "java/lang/invoke/VarHandle" ∧ (parseMethodDescriptor yX0_fault.desc).map (fun d => d.parameters.length) = some 0 := by decide +kernel
theorem hdX0_fill : yX0_fill.cls ≠ "java/lang/invoke/MethodHandle" ∧ yX0_fill.cls ≠ "java/lang/invoke/VarHandle" ∧ (parseMethodDescriptor yX0_fill.desc).map (fun d => d.parameters.length) = some 1 := by decide +kernel
theorem hdX0_flatten : yX0_flatten.cls ≠ "java/lang/invoke/MethodHandle" ∧ yX0_flatten.cls ≠ "java/lang/invoke/VarHandle" ∧ (parseMethodDescriptor yX0_flatten.desc).map (fun d => d.parameters.length) = some 0 := by decide +kernel
theorem hdX0_forget : yX0_forget.cls ≠ "java/lang/invoke/MethodHandle" ∧ yX0_forget.cls ≠ "java/lang/invoke/VarHandle" ∧ (parseMethodDescriptor yX0_forget.desc).map (fun d => d.parameters.length) = some 0 := by decide +kernel
theorem hdX0_image : yX0_image.cls ≠ "java/lang/invoke/MethodHandle" ∧ yX0_image.cls ≠ "java/lang/invoke/VarHandle" ∧ (parseMethodDescriptor yX0_image.desc).map (fun d => d.parameters.length) = some 0 := by decide +kernel
theorem hdX0_in : yX0_in.cls ≠ "java/lang/invoke/MethodHandle" ∧ yX0_in.cls ≠ "java/lang/invoke/VarHandle" ∧ (parseMethodDescriptor yX0_in.desc).map (fun d => d.parameters.length) = some 3 := by decide +kernel
theorem hdX0_init : yX0_init.cls ≠ "java/lang/invoke/MethodHandle" ∧ yX0_init.cls ≠ "java/lang/invoke/VarHandle" ∧ (parseMethodDescriptor yX0_init.desc).map (fun d => d.parameters.length) = some 0 := by decide +kernel
theorem hdX0_isIn : yX0_isIn.cls ≠ "java/lang/invoke/MethodHandle" ∧ yX0_isIn.cls ≠ "java/lang/invoke/VarHandle" ∧ (parseMethodDescriptor yX0_isIn.desc).map (fun d => d.parameters.length) = some 2 := by decide +kernel
theorem hdX0_isRatio : yX0_isRatio.cls ≠ "java/lang/invoke/MethodHandle" ∧ yX0_isRatio.cls ≠ "java/lang/invoke/VarHandle" ∧ (parseMethodDescriptor yX0_isRatio.desc).map (fun d => d.parameters.length) = some 2 := by decide +kernel
theorem hdX0_isShelf : yX0_isShelf.cls ≠ "java/lang/invoke/MethodHandle" ∧ yX0_isShelf.cls ≠ "java/lang/invoke/VarHandle" ∧ (parseMethodDescriptor yX0_isShelf.desc).map (fun d => d.parameters.length) = some 0 := by decide +kernel
theorem hdX0_keyAt : yX0_keyAt.cls ≠ "java/lang/invoke/MethodHandle" ∧ yX0_keyAt.cls ≠ "java/lang/invoke/VarHandle" ∧ (parseMethodDescriptor yX0_keyAt.desc).map (fun d => d.parameters.length) = some 1 := by decide +kernel
theorem hdX0_keyOf : yX0_keyOf.cls ≠ "java/lang/invoke/MethodHandle" ∧ yX0_keyOf.cls ≠ "java/lang/invoke/VarHandle" ∧ (parseMethodDescriptor yX0_keyOf.desc).map (fun d => d.parameters.length) = some 1 := by decide +kernel
theorem hdX0_ledger : yX0_ledger.cls ≠ "java/lang/invoke/MethodHandle" ∧ yX0_ledger.cls ≠ "java/lang/invoke/VarHandle" ∧ (parseMethodDescriptor yX0_ledger.desc).map (fun d => d.parameters.length) = some 1 := by decide +kernel
theorem hdX0_ledgerTold : yX0_ledgerTold.cls ≠ "java/lang/invoke/MethodHandle" ∧ yX0_ledgerTold.cls ≠ "java/lang/invoke/VarHandle" ∧ (parseMethodDescriptor yX0_ledgerTold.desc).map (fun d => d.parameters.length) = some 1 := by decide +kernel
theorem hdX0_lessThan : yX0_lessThan.cls ≠ "java/lang/invoke/MethodHandle" ∧ yX0_lessThan.cls ≠ "java/lang/invoke/VarHandle" ∧ (parseMethodDescriptor yX0_lessThan.desc).map (fun d => d.parameters.length) = some 2 := by decide +kernel
theorem hdX0_letter : yX0_letter.cls ≠ "java/lang/invoke/MethodHandle" ∧ yX0_letter.cls ≠ "java/lang/invoke/VarHandle" ∧ (parseMethodDescriptor yX0_letter.desc).map (fun d => d.parameters.length) = some 1 := by decide +kernel
theorem hdX0_made : yX0_made.cls ≠ "java/lang/invoke/MethodHandle" ∧ yX0_made.cls ≠ "java/lang/invoke/VarHandle" ∧ (parseMethodDescriptor yX0_made.desc).map (fun d => d.parameters.length) = some 3 := by decide +kernel
theorem hdX0_mixed : yX0_mixed.cls ≠ "java/lang/invoke/MethodHandle" ∧ yX0_mixed.cls ≠ "java/lang/invoke/VarHandle" ∧ (parseMethodDescriptor yX0_mixed.desc).map (fun d => d.parameters.length) = some 2 := by decide +kernel
theorem hdX0_mixedEntries : yX0_mixedEntries.cls ≠ "java/lang/invoke/MethodHandle" ∧ yX0_mixedEntries.cls ≠ "java/lang/invoke/VarHandle" ∧ (parseMethodDescriptor yX0_mixedEntries.desc).map (fun d => d.parameters.length) = some 1 := by decide +kernel
theorem hdX0_mixedShelf : yX0_mixedShelf.cls ≠ "java/lang/invoke/MethodHandle" ∧ yX0_mixedShelf.cls ≠ "java/lang/invoke/VarHandle" ∧ (parseMethodDescriptor yX0_mixedShelf.desc).map (fun d => d.parameters.length) = some 1 := by decide +kernel
theorem hdX0_next : yX0_next.cls ≠ "java/lang/invoke/MethodHandle" ∧ yX0_next.cls ≠ "java/lang/invoke/VarHandle" ∧ (parseMethodDescriptor yX0_next.desc).map (fun d => d.parameters.length) = some 1 := by decide +kernel
theorem hdX0_nextTo : yX0_nextTo.cls ≠ "java/lang/invoke/MethodHandle" ∧ yX0_nextTo.cls ≠ "java/lang/invoke/VarHandle" ∧ (parseMethodDescriptor yX0_nextTo.desc).map (fun d => d.parameters.length) = some 1 := by decide +kernel
theorem hdX0_put : yX0_put.cls ≠ "java/lang/invoke/MethodHandle" ∧ yX0_put.cls ≠ "java/lang/invoke/VarHandle" ∧ (parseMethodDescriptor yX0_put.desc).map (fun d => d.parameters.length) = some 3 := by decide +kernel
theorem hdX0_putAnew : yX0_putAnew.cls ≠ "java/lang/invoke/MethodHandle" ∧ yX0_putAnew.cls ≠ "java/lang/invoke/VarHandle" ∧ (parseMethodDescriptor yX0_putAnew.desc).map (fun d => d.parameters.length) = some 3 := by decide +kernel
theorem hdX0_putNew : yX0_putNew.cls ≠ "java/lang/invoke/MethodHandle" ∧ yX0_putNew.cls ≠ "java/lang/invoke/VarHandle" ∧ (parseMethodDescriptor yX0_putNew.desc).map (fun d => d.parameters.length) = some 1 := by decide +kernel
theorem hdX0_replay : yX0_replay.cls ≠ "java/lang/invoke/MethodHandle" ∧ yX0_replay.cls ≠ "java/lang/invoke/VarHandle" ∧ (parseMethodDescriptor yX0_replay.desc).map (fun d => d.parameters.length) = some 3 := by decide +kernel
theorem hdX0_replayTold : yX0_replayTold.cls ≠ "java/lang/invoke/MethodHandle" ∧ yX0_replayTold.cls ≠ "java/lang/invoke/VarHandle" ∧ (parseMethodDescriptor yX0_replayTold.desc).map (fun d => d.parameters.length) = some 3 := by decide +kernel
theorem hdX0_restore : yX0_restore.cls ≠ "java/lang/invoke/MethodHandle" ∧ yX0_restore.cls ≠ "java/lang/invoke/VarHandle" ∧ (parseMethodDescriptor yX0_restore.desc).map (fun d => d.parameters.length) = some 0 := by decide +kernel
theorem hdX0_see : yX0_see.cls ≠ "java/lang/invoke/MethodHandle" ∧ yX0_see.cls ≠ "java/lang/invoke/VarHandle" ∧ (parseMethodDescriptor yX0_see.desc).map (fun d => d.parameters.length) = some 3 := by decide +kernel
theorem hdX0_shelf : yX0_shelf.cls ≠ "java/lang/invoke/MethodHandle" ∧ yX0_shelf.cls ≠ "java/lang/invoke/VarHandle" ∧ (parseMethodDescriptor yX0_shelf.desc).map (fun d => d.parameters.length) = some 0 := by decide +kernel
theorem hdX0_sizeOf : yX0_sizeOf.cls ≠ "java/lang/invoke/MethodHandle" ∧ yX0_sizeOf.cls ≠ "java/lang/invoke/VarHandle" ∧ (parseMethodDescriptor yX0_sizeOf.desc).map (fun d => d.parameters.length) = some 1 := by decide +kernel
theorem hdX0_sorts : yX0_sorts.cls ≠ "java/lang/invoke/MethodHandle" ∧ yX0_sorts.cls ≠ "java/lang/invoke/VarHandle" ∧ (parseMethodDescriptor yX0_sorts.desc).map (fun d => d.parameters.length) = some 2 := by decide +kernel
theorem hdX0_sortsOf : yX0_sortsOf.cls ≠ "java/lang/invoke/MethodHandle" ∧ yX0_sortsOf.cls ≠ "java/lang/invoke/VarHandle" ∧ (parseMethodDescriptor yX0_sortsOf.desc).map (fun d => d.parameters.length) = some 1 := by decide +kernel
theorem hdX0_take : yX0_take.cls ≠ "java/lang/invoke/MethodHandle" ∧ yX0_take.cls ≠ "java/lang/invoke/VarHandle" ∧ (parseMethodDescriptor yX0_take.desc).map (fun d => d.parameters.length) = some 1 := by decide +kernel
theorem hdX0_takeAway : yX0_takeAway.cls ≠ "java/lang/invoke/MethodHandle" ∧ yX0_takeAway.cls ≠ "java/lang/invoke/VarHandle" ∧ (parseMethodDescriptor yX0_takeAway.desc).map (fun d => d.parameters.length) = some 1 := by decide +kernel
theorem hdX0_tallOf : yX0_tallOf.cls ≠ "java/lang/invoke/MethodHandle" ∧ yX0_tallOf.cls ≠ "java/lang/invoke/VarHandle" ∧ (parseMethodDescriptor yX0_tallOf.desc).map (fun d => d.parameters.length) = some 1 := by decide +kernel
theorem hdX0_tell : yX0_tell.cls ≠ "java/lang/invoke/MethodHandle" ∧ yX0_tell.cls ≠ "java/lang/invoke/VarHandle" ∧ (parseMethodDescriptor yX0_tell.desc).map (fun d => d.parameters.length) = some 1 := by decide +kernel
theorem hdX0_would : yX0_would.cls ≠ "java/lang/invoke/MethodHandle" ∧ yX0_would.cls ≠ "java/lang/invoke/VarHandle" ∧ (parseMethodDescriptor yX0_would.desc).map (fun d => d.parameters.length) = some 1 := by decide +kernel
theorem hdX0_wouldBuild : yX0_wouldBuild.cls ≠ "java/lang/invoke/MethodHandle" ∧ yX0_wouldBuild.cls ≠ "java/lang/invoke/VarHandle" ∧ (parseMethodDescriptor yX0_wouldBuild.desc).map (fun d => d.parameters.length) = some 1 := by decide +kernel
theorem hdX0_wouldDo : yX0_wouldDo.cls ≠ "java/lang/invoke/MethodHandle" ∧ yX0_wouldDo.cls ≠ "java/lang/invoke/VarHandle" ∧ (parseMethodDescriptor yX0_wouldDo.desc).map (fun d => d.parameters.length) = some 2 := by decide +kernel
theorem hdX0_write : yX0_write.cls ≠ "java/lang/invoke/MethodHandle" ∧ yX0_write.cls ≠ "java/lang/invoke/VarHandle" ∧ (parseMethodDescriptor yX0_write.desc).map (fun d => d.parameters.length) = some 1 := by decide +kernel
theorem hdX1_build : yX1_build.cls ≠ "java/lang/invoke/MethodHandle" ∧ yX1_build.cls ≠ "java/lang/invoke/VarHandle" ∧ (parseMethodDescriptor yX1_build.desc).map (fun d => d.parameters.length) = some 2 := by decide +kernel
theorem hdX1_collect : yX1_collect.cls ≠ "java/lang/invoke/MethodHandle" ∧ yX1_collect.cls ≠ "java/lang/invoke/VarHandle" ∧ (parseMethodDescriptor yX1_collect.desc).map (fun d => d.parameters.length) = some 2 := by decide +kernel
theorem hdX1_empty : yX1_empty.cls ≠ "java/lang/invoke/MethodHandle" ∧ yX1_empty.cls ≠ "java/lang/invoke/VarHandle" ∧ (parseMethodDescriptor yX1_empty.desc).map (fun d => d.parameters.length) = some 3 := by decide +kernel
theorem hdX1_find : yX1_find.cls ≠ "java/lang/invoke/MethodHandle" ∧ yX1_find.cls ≠ "java/lang/invoke/VarHandle" ∧ (parseMethodDescriptor yX1_find.desc).map (fun d => d.parameters.length) = some 1 := by decide +kernel
theorem hdX1_flat : yX1_flat.cls ≠ "java/lang/invoke/MethodHandle" ∧ yX1_flat.cls ≠ "java/lang/invoke/VarHandle" ∧ (parseMethodDescriptor yX1_flat.desc).map (fun d => d.parameters.length) = some 3 := by decide +kernel
theorem hdX1_hang : yX1_hang.cls ≠ "java/lang/invoke/MethodHandle" ∧ yX1_hang.cls ≠ "java/lang/invoke/VarHandle" ∧ (parseMethodDescriptor yX1_hang.desc).map (fun d => d.parameters.length) = some 3 := by decide +kernel
theorem hdX1_init : yX1_init.cls ≠ "java/lang/invoke/MethodHandle" ∧ yX1_init.cls ≠ "java/lang/invoke/VarHandle" ∧ (parseMethodDescriptor yX1_init.desc).map (fun d => d.parameters.length) = some 0 := by decide +kernel
theorem hdX1_isTooMuch : yX1_isTooMuch.cls ≠ "java/lang/invoke/MethodHandle" ∧ yX1_isTooMuch.cls ≠ "java/lang/invoke/VarHandle" ∧ (parseMethodDescriptor yX1_isTooMuch.desc).map (fun d => d.parameters.length) = some 1 := by decide +kernel
theorem hdX1_leastOf : yX1_leastOf.cls ≠ "java/lang/invoke/MethodHandle" ∧ yX1_leastOf.cls ≠ "java/lang/invoke/VarHandle" ∧ (parseMethodDescriptor yX1_leastOf.desc).map (fun d => d.parameters.length) = some 1 := by decide +kernel
theorem hdX1_like : yX1_like.cls ≠ "java/lang/invoke/MethodHandle" ∧ yX1_like.cls ≠ "java/lang/invoke/VarHandle" ∧ (parseMethodDescriptor yX1_like.desc).map (fun d => d.parameters.length) = some 1 := by decide +kernel
theorem hdX1_limit : yX1_limit.cls ≠ "java/lang/invoke/MethodHandle" ∧ yX1_limit.cls ≠ "java/lang/invoke/VarHandle" ∧ (parseMethodDescriptor yX1_limit.desc).map (fun d => d.parameters.length) = some 1 := by decide +kernel
theorem hdX1_pay : yX1_pay.cls ≠ "java/lang/invoke/MethodHandle" ∧ yX1_pay.cls ≠ "java/lang/invoke/VarHandle" ∧ (parseMethodDescriptor yX1_pay.desc).map (fun d => d.parameters.length) = some 1 := by decide +kernel
theorem hdX1_put : yX1_put.cls ≠ "java/lang/invoke/MethodHandle" ∧ yX1_put.cls ≠ "java/lang/invoke/VarHandle" ∧ (parseMethodDescriptor yX1_put.desc).map (fun d => d.parameters.length) = some 1 := by decide +kernel
theorem hdX1_take : yX1_take.cls ≠ "java/lang/invoke/MethodHandle" ∧ yX1_take.cls ≠ "java/lang/invoke/VarHandle" ∧ (parseMethodDescriptor yX1_take.desc).map (fun d => d.parameters.length) = some 1 := by decide +kernel
theorem hdX1_wayTo : yX1_wayTo.cls ≠ "java/lang/invoke/MethodHandle" ∧ yX1_wayTo.cls ≠ "java/lang/invoke/VarHandle" ∧ (parseMethodDescriptor yX1_wayTo.desc).map (fun d => d.parameters.length) = some 1 := by decide +kernel
theorem hdX1_without : yX1_without.cls ≠ "java/lang/invoke/MethodHandle" ∧ yX1_without.cls ≠ "java/lang/invoke/VarHandle" ∧ (parseMethodDescriptor yX1_without.desc).map (fun d => d.parameters.length) = some 2 := by decide +kernel
theorem hdX1_would : yX1_would.cls ≠ "java/lang/invoke/MethodHandle" ∧ yX1_would.cls ≠ "java/lang/invoke/VarHandle" ∧ (parseMethodDescriptor yX1_would.desc).map (fun d => d.parameters.length) = some 1 := by decide +kernel
theorem hdX2_a : yX2_a.cls ≠ "java/lang/invoke/MethodHandle" ∧ yX2_a.cls ≠ "java/lang/invoke/VarHandle" ∧ (parseMethodDescriptor yX2_a.desc).map (fun d => d.parameters.length) = some 1 := by decide +kernel
theorem hdX2_ahead : yX2_ahead.cls ≠ "java/lang/invoke/MethodHandle" ∧ yX2_ahead.cls ≠ "java/lang/invoke/VarHandle" ∧ (parseMethodDescriptor yX2_ahead.desc).map (fun d => d.parameters.length) = some 0 := by decide +kernel
theorem hdX2_aheadOf : yX2_aheadOf.cls ≠ "java/lang/invoke/MethodHandle" ∧ yX2_aheadOf.cls ≠ "java/lang/invoke/VarHandle" ∧ (parseMethodDescriptor yX2_aheadOf.desc).map (fun d => d.parameters.length) = some 0 := by decide +kernel
theorem hdX2_as : yX2_as.cls ≠ "java/lang/invoke/MethodHandle" ∧ yX2_as.cls ≠ "java/lang/invoke/VarHandle" ∧ (parseMethodDescriptor yX2_as.desc).map (fun d => d.parameters.length) = some 2 := by decide +kernel
theorem hdX2_askOf : yX2_askOf.cls ≠ "java/lang/invoke/MethodHandle" ∧ yX2_askOf.cls ≠ "java/lang/invoke/VarHandle" ∧ (parseMethodDescriptor yX2_askOf.desc).map (fun d => d.parameters.length) = some 1 := by decide +kernel
theorem hdX2_at : yX2_at.cls ≠ "java/lang/invoke/MethodHandle" ∧ yX2_at.cls ≠ "java/lang/invoke/VarHandle" ∧ (parseMethodDescriptor yX2_at.desc).map (fun d => d.parameters.length) = some 1 := by decide +kernel
theorem hdX2_b : yX2_b.cls ≠ "java/lang/invoke/MethodHandle" ∧ yX2_b.cls ≠ "java/lang/invoke/VarHandle" ∧ (parseMethodDescriptor yX2_b.desc).map (fun d => d.parameters.length) = some 1 := by decide +kernel
theorem hdX2_begin : yX2_begin.cls ≠ "java/lang/invoke/MethodHandle" ∧ yX2_begin.cls ≠ "java/lang/invoke/VarHandle" ∧ (parseMethodDescriptor yX2_begin.desc).map (fun d => d.parameters.length) = some 0 := by decide +kernel
theorem hdX2_blank : yX2_blank.cls ≠ "java/lang/invoke/MethodHandle" ∧ yX2_blank.cls ≠ "java/lang/invoke/VarHandle" ∧ (parseMethodDescriptor yX2_blank.desc).map (fun d => d.parameters.length) = some 0 := by decide +kernel
theorem hdX2_build : yX2_build.cls ≠ "java/lang/invoke/MethodHandle" ∧ yX2_build.cls ≠ "java/lang/invoke/VarHandle" ∧ (parseMethodDescriptor yX2_build.desc).map (fun d => d.parameters.length) = some 2 := by decide +kernel
theorem hdX2_copy : yX2_copy.cls ≠ "java/lang/invoke/MethodHandle" ∧ yX2_copy.cls ≠ "java/lang/invoke/VarHandle" ∧ (parseMethodDescriptor yX2_copy.desc).map (fun d => d.parameters.length) = some 2 := by decide +kernel
theorem hdX2_count : yX2_count.cls ≠ "java/lang/invoke/MethodHandle" ∧ yX2_count.cls ≠ "java/lang/invoke/VarHandle" ∧ (parseMethodDescriptor yX2_count.desc).map (fun d => d.parameters.length) = some 1 := by decide +kernel
theorem hdX2_countOf : yX2_countOf.cls ≠ "java/lang/invoke/MethodHandle" ∧ yX2_countOf.cls ≠ "java/lang/invoke/VarHandle" ∧ (parseMethodDescriptor yX2_countOf.desc).map (fun d => d.parameters.length) = some 1 := by decide +kernel
theorem hdX2_dear : yX2_dear.cls ≠ "java/lang/invoke/MethodHandle" ∧ yX2_dear.cls ≠ "java/lang/invoke/VarHandle" ∧ (parseMethodDescriptor yX2_dear.desc).map (fun d => d.parameters.length) = some 1 := by decide +kernel
theorem hdX2_dearOf : yX2_dearOf.cls ≠ "java/lang/invoke/MethodHandle" ∧ yX2_dearOf.cls ≠ "java/lang/invoke/VarHandle" ∧ (parseMethodDescriptor yX2_dearOf.desc).map (fun d => d.parameters.length) = some 1 := by decide +kernel
theorem hdX2_depth : yX2_depth.cls ≠ "java/lang/invoke/MethodHandle" ∧ yX2_depth.cls ≠ "java/lang/invoke/VarHandle" ∧ (parseMethodDescriptor yX2_depth.desc).map (fun d => d.parameters.length) = some 2 := by decide +kernel
theorem hdX2_digest : yX2_digest.cls ≠ "java/lang/invoke/MethodHandle" ∧ yX2_digest.cls ≠ "java/lang/invoke/VarHandle" ∧ (parseMethodDescriptor yX2_digest.desc).map (fun d => d.parameters.length) = some 0 := by decide +kernel
theorem hdX2_draw : yX2_draw.cls ≠ "java/lang/invoke/MethodHandle" ∧ yX2_draw.cls ≠ "java/lang/invoke/VarHandle" ∧ (parseMethodDescriptor yX2_draw.desc).map (fun d => d.parameters.length) = some 1 := by decide +kernel
theorem hdX2_drawn : yX2_drawn.cls ≠ "java/lang/invoke/MethodHandle" ∧ yX2_drawn.cls ≠ "java/lang/invoke/VarHandle" ∧ (parseMethodDescriptor yX2_drawn.desc).map (fun d => d.parameters.length) = some 3 := by decide +kernel
theorem hdX2_empty : yX2_empty.cls ≠ "java/lang/invoke/MethodHandle" ∧ yX2_empty.cls ≠ "java/lang/invoke/VarHandle" ∧ (parseMethodDescriptor yX2_empty.desc).map (fun d => d.parameters.length) = some 1 := by decide +kernel
theorem hdX2_enter : yX2_enter.cls ≠ "java/lang/invoke/MethodHandle" ∧ yX2_enter.cls ≠ "java/lang/invoke/VarHandle" ∧ (parseMethodDescriptor yX2_enter.desc).map (fun d => d.parameters.length) = some 2 := by decide +kernel
theorem hdX2_entry : yX2_entry.cls ≠ "java/lang/invoke/MethodHandle" ∧ yX2_entry.cls ≠ "java/lang/invoke/VarHandle" ∧ (parseMethodDescriptor yX2_entry.desc).map (fun d => d.parameters.length) = some 2 := by decide +kernel
theorem hdX2_fault : yX2_fault.cls ≠ "java/lang/invoke/MethodHandle" ∧ yX2_fault.cls ≠ "java/lang/invoke/VarHandle" ∧ (parseMethodDescriptor yX2_fault.desc).map (fun d => d.parameters.length) = some 0 := by decide +kernel
theorem hdX2_faultOf : yX2_faultOf.cls ≠ "java/lang/invoke/MethodHandle" ∧ yX2_faultOf.cls ≠ "java/lang/invoke/VarHandle" ∧ (parseMethodDescriptor yX2_faultOf.desc).map (fun d => d.parameters.length) = some 0 := by decide +kernel
theorem hdX2_flatten : yX2_flatten.cls ≠ "java/lang/invoke/MethodHandle" ∧ yX2_flatten.cls ≠ "java/lang/invoke/VarHandle" ∧ (parseMethodDescriptor yX2_flatten.desc).map (fun d => d.parameters.length) = some 0 := by decide +kernel
theorem hdX2_forget : yX2_forget.cls ≠ "java/lang/invoke/MethodHandle" ∧ yX2_forget.cls ≠ "java/lang/invoke/VarHandle" ∧ (parseMethodDescriptor yX2_forget.desc).map (fun d => d.parameters.length) = some 0 := by decide +kernel
theorem hdX2_hang : yX2_hang.cls ≠ "java/lang/invoke/MethodHandle" ∧ yX2_hang.cls ≠ "java/lang/invoke/VarHandle" ∧ (parseMethodDescriptor yX2_hang.desc).map (fun d => d.parameters.length) = some 3 := by decide +kernel
theorem hdX2_image : yX2_image.cls ≠ "java/lang/invoke/MethodHandle" ∧ yX2_image.cls ≠ "java/lang/invoke/VarHandle" ∧ (parseMethodDescriptor yX2_image.desc).map (fun d => d.parameters.length) = some 0 := by decide +kernel
theorem hdX2_in : yX2_in.cls ≠ "java/lang/invoke/MethodHandle" ∧ yX2_in.cls ≠ "java/lang/invoke/VarHandle" ∧ (parseMethodDescriptor yX2_in.desc).map (fun d => d.parameters.length) = some 3 := by decide +kernel
theorem hdX2_init : yX2_init.cls ≠ "java/lang/invoke/MethodHandle" ∧ yX2_init.cls ≠ "java/lang/invoke/VarHandle" ∧ (parseMethodDescriptor yX2_init.desc).map (fun d => d.parameters.length) = some 0 := by decide +kernel
theorem hdX2_insert : yX2_insert.cls ≠ "java/lang/invoke/MethodHandle" ∧ yX2_insert.cls ≠ "java/lang/invoke/VarHandle" ∧ (parseMethodDescriptor yX2_insert.desc).map (fun d => d.parameters.length) = some 2 := by decide +kernel
theorem hdX2_isBelow : yX2_isBelow.cls ≠ "java/lang/invoke/MethodHandle" ∧ yX2_isBelow.cls ≠ "java/lang/invoke/VarHandle" ∧ (parseMethodDescriptor yX2_isBelow.desc).map (fun d => d.parameters.length) = some 3 := by decide +kernel
theorem hdX2_isEntrySign : yX2_isEntrySign.cls ≠ "java/lang/invoke/MethodHandle" ∧ yX2_isEntrySign.cls ≠ "java/lang/invoke/VarHandle" ∧ (parseMethodDescriptor yX2_isEntrySign.desc).map (fun d => d.parameters.length) = some 1 := by decide +kernel
theorem hdX2_isGood : yX2_isGood.cls ≠ "java/lang/invoke/MethodHandle" ∧ yX2_isGood.cls ≠ "java/lang/invoke/VarHandle" ∧ (parseMethodDescriptor yX2_isGood.desc).map (fun d => d.parameters.length) = some 1 := by decide +kernel
theorem hdX2_isLopsided : yX2_isLopsided.cls ≠ "java/lang/invoke/MethodHandle" ∧ yX2_isLopsided.cls ≠ "java/lang/invoke/VarHandle" ∧ (parseMethodDescriptor yX2_isLopsided.desc).map (fun d => d.parameters.length) = some 2 := by decide +kernel
theorem hdX2_isRatio : yX2_isRatio.cls ≠ "java/lang/invoke/MethodHandle" ∧ yX2_isRatio.cls ≠ "java/lang/invoke/VarHandle" ∧ (parseMethodDescriptor yX2_isRatio.desc).map (fun d => d.parameters.length) = some 2 := by decide +kernel
theorem hdX2_isThere : yX2_isThere.cls ≠ "java/lang/invoke/MethodHandle" ∧ yX2_isThere.cls ≠ "java/lang/invoke/VarHandle" ∧ (parseMethodDescriptor yX2_isThere.desc).map (fun d => d.parameters.length) = some 1 := by decide +kernel
theorem hdX2_isTold : yX2_isTold.cls ≠ "java/lang/invoke/MethodHandle" ∧ yX2_isTold.cls ≠ "java/lang/invoke/VarHandle" ∧ (parseMethodDescriptor yX2_isTold.desc).map (fun d => d.parameters.length) = some 1 := by decide +kernel
theorem hdX2_keyAt : yX2_keyAt.cls ≠ "java/lang/invoke/MethodHandle" ∧ yX2_keyAt.cls ≠ "java/lang/invoke/VarHandle" ∧ (parseMethodDescriptor yX2_keyAt.desc).map (fun d => d.parameters.length) = some 1 := by decide +kernel
theorem hdX2_kindBy : yX2_kindBy.cls ≠ "java/lang/invoke/MethodHandle" ∧ yX2_kindBy.cls ≠ "java/lang/invoke/VarHandle" ∧ (parseMethodDescriptor yX2_kindBy.desc).map (fun d => d.parameters.length) = some 1 := by decide +kernel
theorem hdX2_lacks : yX2_lacks.cls ≠ "java/lang/invoke/MethodHandle" ∧ yX2_lacks.cls ≠ "java/lang/invoke/VarHandle" ∧ (parseMethodDescriptor yX2_lacks.desc).map (fun d => d.parameters.length) = some 0 := by decide +kernel
theorem hdX2_layRow : yX2_layRow.cls ≠ "java/lang/invoke/MethodHandle" ∧ yX2_layRow.cls ≠ "java/lang/invoke/VarHandle" ∧ (parseMethodDescriptor yX2_layRow.desc).map (fun d => d.parameters.length) = some 2 := by decide +kernel
theorem hdX2_leave : yX2_leave.cls ≠ "java/lang/invoke/MethodHandle" ∧ yX2_leave.cls ≠ "java/lang/invoke/VarHandle" ∧ (parseMethodDescriptor yX2_leave.desc).map (fun d => d.parameters.length) = some 2 := by decide +kernel
theorem hdX2_ledger : yX2_ledger.cls ≠ "java/lang/invoke/MethodHandle" ∧ yX2_ledger.cls ≠ "java/lang/invoke/VarHandle" ∧ (parseMethodDescriptor yX2_ledger.desc).map (fun d => d.parameters.length) = some 1 := by decide +kernel
theorem hdX2_ledgerOf : yX2_ledgerOf.cls ≠ "java/lang/invoke/MethodHandle" ∧ yX2_ledgerOf.cls ≠ "java/lang/invoke/VarHandle" ∧ (parseMethodDescriptor yX2_ledgerOf.desc).map (fun d => d.parameters.length) = some 1 := by decide +kernel
theorem hdX2_lessMany : yX2_lessMany.cls ≠ "java/lang/invoke/MethodHandle" ∧ yX2_lessMany.cls ≠ "java/lang/invoke/VarHandle" ∧ (parseMethodDescriptor yX2_lessMany.desc).map (fun d => d.parameters.length) = some 1 := by decide +kernel
theorem hdX2_letter : yX2_letter.cls ≠ "java/lang/invoke/MethodHandle" ∧ yX2_letter.cls ≠ "java/lang/invoke/VarHandle" ∧ (parseMethodDescriptor yX2_letter.desc).map (fun d => d.parameters.length) = some 1 := by decide +kernel
theorem hdX2_limit : yX2_limit.cls ≠ "java/lang/invoke/MethodHandle" ∧ yX2_limit.cls ≠ "java/lang/invoke/VarHandle" ∧ (parseMethodDescriptor yX2_limit.desc).map (fun d => d.parameters.length) = some 2 := by decide +kernel
theorem hdX2_next : yX2_next.cls ≠ "java/lang/invoke/MethodHandle" ∧ yX2_next.cls ≠ "java/lang/invoke/VarHandle" ∧ (parseMethodDescriptor yX2_next.desc).map (fun d => d.parameters.length) = some 1 := by decide +kernel
theorem hdX2_ones : yX2_ones.cls ≠ "java/lang/invoke/MethodHandle" ∧ yX2_ones.cls ≠ "java/lang/invoke/VarHandle" ∧ (parseMethodDescriptor yX2_ones.desc).map (fun d => d.parameters.length) = some 1 := by decide +kernel
theorem hdX2_pay : yX2_pay.cls ≠ "java/lang/invoke/MethodHandle" ∧ yX2_pay.cls ≠ "java/lang/invoke/VarHandle" ∧ (parseMethodDescriptor yX2_pay.desc).map (fun d => d.parameters.length) = some 2 := by decide +kernel
theorem hdX2_put : yX2_put.cls ≠ "java/lang/invoke/MethodHandle" ∧ yX2_put.cls ≠ "java/lang/invoke/VarHandle" ∧ (parseMethodDescriptor yX2_put.desc).map (fun d => d.parameters.length) = some 3 := by decide +kernel
theorem hdX2_putNew : yX2_putNew.cls ≠ "java/lang/invoke/MethodHandle" ∧ yX2_putNew.cls ≠ "java/lang/invoke/VarHandle" ∧ (parseMethodDescriptor yX2_putNew.desc).map (fun d => d.parameters.length) = some 3 := by decide +kernel
theorem hdX2_remove : yX2_remove.cls ≠ "java/lang/invoke/MethodHandle" ∧ yX2_remove.cls ≠ "java/lang/invoke/VarHandle" ∧ (parseMethodDescriptor yX2_remove.desc).map (fun d => d.parameters.length) = some 2 := by decide +kernel
theorem hdX2_replace : yX2_replace.cls ≠ "java/lang/invoke/MethodHandle" ∧ yX2_replace.cls ≠ "java/lang/invoke/VarHandle" ∧ (parseMethodDescriptor yX2_replace.desc).map (fun d => d.parameters.length) = some 3 := by decide +kernel
theorem hdX2_replay : yX2_replay.cls ≠ "java/lang/invoke/MethodHandle" ∧ yX2_replay.cls ≠ "java/lang/invoke/VarHandle" ∧ (parseMethodDescriptor yX2_replay.desc).map (fun d => d.parameters.length) = some 3 := by decide +kernel
theorem hdX2_replayOf : yX2_replayOf.cls ≠ "java/lang/invoke/MethodHandle" ∧ yX2_replayOf.cls ≠ "java/lang/invoke/VarHandle" ∧ (parseMethodDescriptor yX2_replayOf.desc).map (fun d => d.parameters.length) = some 3 := by decide +kernel
theorem hdX2_restore : yX2_restore.cls ≠ "java/lang/invoke/MethodHandle" ∧ yX2_restore.cls ≠ "java/lang/invoke/VarHandle" ∧ (parseMethodDescriptor yX2_restore.desc).map (fun d => d.parameters.length) = some 0 := by decide +kernel
theorem hdX2_say : yX2_say.cls ≠ "java/lang/invoke/MethodHandle" ∧ yX2_say.cls ≠ "java/lang/invoke/VarHandle" ∧ (parseMethodDescriptor yX2_say.desc).map (fun d => d.parameters.length) = some 1 := by decide +kernel
theorem hdX2_sayShelf : yX2_sayShelf.cls ≠ "java/lang/invoke/MethodHandle" ∧ yX2_sayShelf.cls ≠ "java/lang/invoke/VarHandle" ∧ (parseMethodDescriptor yX2_sayShelf.desc).map (fun d => d.parameters.length) = some 0 := by decide +kernel
theorem hdX2_see : yX2_see.cls ≠ "java/lang/invoke/MethodHandle" ∧ yX2_see.cls ≠ "java/lang/invoke/VarHandle" ∧ (parseMethodDescriptor yX2_see.desc).map (fun d => d.parameters.length) = some 3 := by decide +kernel
theorem hdX2_shelf : yX2_shelf.cls ≠ "java/lang/invoke/MethodHandle" ∧ yX2_shelf.cls ≠ "java/lang/invoke/VarHandle" ∧ (parseMethodDescriptor yX2_shelf.desc).map (fun d => d.parameters.length) = some 0 := by decide +kernel
theorem hdX2_size : yX2_size.cls ≠ "java/lang/invoke/MethodHandle" ∧ yX2_size.cls ≠ "java/lang/invoke/VarHandle" ∧ (parseMethodDescriptor yX2_size.desc).map (fun d => d.parameters.length) = some 2 := by decide +kernel
theorem hdX2_sorts : yX2_sorts.cls ≠ "java/lang/invoke/MethodHandle" ∧ yX2_sorts.cls ≠ "java/lang/invoke/VarHandle" ∧ (parseMethodDescriptor yX2_sorts.desc).map (fun d => d.parameters.length) = some 2 := by decide +kernel
theorem hdX2_sortsBy : yX2_sortsBy.cls ≠ "java/lang/invoke/MethodHandle" ∧ yX2_sortsBy.cls ≠ "java/lang/invoke/VarHandle" ∧ (parseMethodDescriptor yX2_sortsBy.desc).map (fun d => d.parameters.length) = some 1 := by decide +kernel
theorem hdX2_sortsOf : yX2_sortsOf.cls ≠ "java/lang/invoke/MethodHandle" ∧ yX2_sortsOf.cls ≠ "java/lang/invoke/VarHandle" ∧ (parseMethodDescriptor yX2_sortsOf.desc).map (fun d => d.parameters.length) = some 1 := by decide +kernel
theorem hdX2_take : yX2_take.cls ≠ "java/lang/invoke/MethodHandle" ∧ yX2_take.cls ≠ "java/lang/invoke/VarHandle" ∧ (parseMethodDescriptor yX2_take.desc).map (fun d => d.parameters.length) = some 1 := by decide +kernel
theorem hdX2_takeOut : yX2_takeOut.cls ≠ "java/lang/invoke/MethodHandle" ∧ yX2_takeOut.cls ≠ "java/lang/invoke/VarHandle" ∧ (parseMethodDescriptor yX2_takeOut.desc).map (fun d => d.parameters.length) = some 1 := by decide +kernel
theorem hdX2_tall : yX2_tall.cls ≠ "java/lang/invoke/MethodHandle" ∧ yX2_tall.cls ≠ "java/lang/invoke/VarHandle" ∧ (parseMethodDescriptor yX2_tall.desc).map (fun d => d.parameters.length) = some 1 := by decide +kernel
theorem hdX2_tell : yX2_tell.cls ≠ "java/lang/invoke/MethodHandle" ∧ yX2_tell.cls ≠ "java/lang/invoke/VarHandle" ∧ (parseMethodDescriptor yX2_tell.desc).map (fun d => d.parameters.length) = some 1 := by decide +kernel
theorem hdX2_tellEntry : yX2_tellEntry.cls ≠ "java/lang/invoke/MethodHandle" ∧ yX2_tellEntry.cls ≠ "java/lang/invoke/VarHandle" ∧ (parseMethodDescriptor yX2_tellEntry.desc).map (fun d => d.parameters.length) = some 2 := by decide +kernel
theorem hdX2_unhang : yX2_unhang.cls ≠ "java/lang/invoke/MethodHandle" ∧ yX2_unhang.cls ≠ "java/lang/invoke/VarHandle" ∧ (parseMethodDescriptor yX2_unhang.desc).map (fun d => d.parameters.length) = some 2 := by decide +kernel
theorem hdX2_would : yX2_would.cls ≠ "java/lang/invoke/MethodHandle" ∧ yX2_would.cls ≠ "java/lang/invoke/VarHandle" ∧ (parseMethodDescriptor yX2_would.desc).map (fun d => d.parameters.length) = some 1 := by decide +kernel
theorem hdX2_wouldOf : yX2_wouldOf.cls ≠ "java/lang/invoke/MethodHandle" ∧ yX2_wouldOf.cls ≠ "java/lang/invoke/VarHandle" ∧ (parseMethodDescriptor yX2_wouldOf.desc).map (fun d => d.parameters.length) = some 1 := by decide +kernel
theorem hdX2_write : yX2_write.cls ≠ "java/lang/invoke/MethodHandle" ∧ yX2_write.cls ≠ "java/lang/invoke/VarHandle" ∧ (parseMethodDescriptor yX2_write.desc).map (fun d => d.parameters.length) = some 1 := by decide +kernel
theorem hdX3_digit : yX3_digit.cls ≠ "java/lang/invoke/MethodHandle" ∧ yX3_digit.cls ≠ "java/lang/invoke/VarHandle" ∧ (parseMethodDescriptor yX3_digit.desc).map (fun d => d.parameters.length) = some 2 := by decide +kernel
theorem hdX3_entry : yX3_entry.cls ≠ "java/lang/invoke/MethodHandle" ∧ yX3_entry.cls ≠ "java/lang/invoke/VarHandle" ∧ (parseMethodDescriptor yX3_entry.desc).map (fun d => d.parameters.length) = some 0 := by decide +kernel
theorem hdX3_init : yX3_init.cls ≠ "java/lang/invoke/MethodHandle" ∧ yX3_init.cls ≠ "java/lang/invoke/VarHandle" ∧ (parseMethodDescriptor yX3_init.desc).map (fun d => d.parameters.length) = some 1 := by decide +kernel
theorem hdX3_isTold : yX3_isTold.cls ≠ "java/lang/invoke/MethodHandle" ∧ yX3_isTold.cls ≠ "java/lang/invoke/VarHandle" ∧ (parseMethodDescriptor yX3_isTold.desc).map (fun d => d.parameters.length) = some 1 := by decide +kernel
theorem hdX3_next : yX3_next.cls ≠ "java/lang/invoke/MethodHandle" ∧ yX3_next.cls ≠ "java/lang/invoke/VarHandle" ∧ (parseMethodDescriptor yX3_next.desc).map (fun d => d.parameters.length) = some 0 := by decide +kernel
theorem hdX3_shelf : yX3_shelf.cls ≠ "java/lang/invoke/MethodHandle" ∧ yX3_shelf.cls ≠ "java/lang/invoke/VarHandle" ∧ (parseMethodDescriptor yX3_shelf.desc).map (fun d => d.parameters.length) = some 0 := by decide +kernel
theorem hdX3_takes : yX3_takes.cls ≠ "java/lang/invoke/MethodHandle" ∧ yX3_takes.cls ≠ "java/lang/invoke/VarHandle" ∧ (parseMethodDescriptor yX3_takes.desc).map (fun d => d.parameters.length) = some 1 := by decide +kernel
theorem hdX3_want : yX3_want.cls ≠ "java/lang/invoke/MethodHandle" ∧ yX3_want.cls ≠ "java/lang/invoke/VarHandle" ∧ (parseMethodDescriptor yX3_want.desc).map (fun d => d.parameters.length) = some 1 := by decide +kernel
theorem hdX4_init : yX4_init.cls ≠ "java/lang/invoke/MethodHandle" ∧ yX4_init.cls ≠ "java/lang/invoke/VarHandle" ∧ (parseMethodDescriptor yX4_init.desc).map (fun d => d.parameters.length) = some 1 := by decide +kernel
theorem hdX5_could : yX5_could.cls ≠ "java/lang/invoke/MethodHandle" ∧ yX5_could.cls ≠ "java/lang/invoke/VarHandle" ∧ (parseMethodDescriptor yX5_could.desc).map (fun d => d.parameters.length) = some 1 := by decide +kernel
theorem hdX5_init : yX5_init.cls ≠ "java/lang/invoke/MethodHandle" ∧ yX5_init.cls ≠ "java/lang/invoke/VarHandle" ∧ (parseMethodDescriptor yX5_init.desc).map (fun d => d.parameters.length) = some 0 := by decide +kernel
theorem hdX5_isOf : yX5_isOf.cls ≠ "java/lang/invoke/MethodHandle" ∧ yX5_isOf.cls ≠ "java/lang/invoke/VarHandle" ∧ (parseMethodDescriptor yX5_isOf.desc).map (fun d => d.parameters.length) = some 1 := by decide +kernel
theorem hdX5_kind : yX5_kind.cls ≠ "java/lang/invoke/MethodHandle" ∧ yX5_kind.cls ≠ "java/lang/invoke/VarHandle" ∧ (parseMethodDescriptor yX5_kind.desc).map (fun d => d.parameters.length) = some 0 := by decide +kernel
theorem hdX5_mayBePutAnew : yX5_mayBePutAnew.cls ≠ "java/lang/invoke/MethodHandle" ∧ yX5_mayBePutAnew.cls ≠ "java/lang/invoke/VarHandle" ∧ (parseMethodDescriptor yX5_mayBePutAnew.desc).map (fun d => d.parameters.length) = some 0 := by decide +kernel
theorem hdX5_mayBeTaken : yX5_mayBeTaken.cls ≠ "java/lang/invoke/MethodHandle" ∧ yX5_mayBeTaken.cls ≠ "java/lang/invoke/VarHandle" ∧ (parseMethodDescriptor yX5_mayBeTaken.desc).map (fun d => d.parameters.length) = some 0 := by decide +kernel
theorem hdX5_stays : yX5_stays.cls ≠ "java/lang/invoke/MethodHandle" ∧ yX5_stays.cls ≠ "java/lang/invoke/VarHandle" ∧ (parseMethodDescriptor yX5_stays.desc).map (fun d => d.parameters.length) = some 0 := by decide +kernel
theorem hdX5_tellsMore : yX5_tellsMore.cls ≠ "java/lang/invoke/MethodHandle" ∧ yX5_tellsMore.cls ≠ "java/lang/invoke/VarHandle" ∧ (parseMethodDescriptor yX5_tellsMore.desc).map (fun d => d.parameters.length) = some 0 := by decide +kernel
theorem hdX6_init : yX6_init.cls ≠ "java/lang/invoke/MethodHandle" ∧ yX6_init.cls ≠ "java/lang/invoke/VarHandle" ∧ (parseMethodDescriptor yX6_init.desc).map (fun d => d.parameters.length) = some 0 := by decide +kernel
theorem hdX6_isOf : yX6_isOf.cls ≠ "java/lang/invoke/MethodHandle" ∧ yX6_isOf.cls ≠ "java/lang/invoke/VarHandle" ∧ (parseMethodDescriptor yX6_isOf.desc).map (fun d => d.parameters.length) = some 1 := by decide +kernel
theorem hdX6_kind : yX6_kind.cls ≠ "java/lang/invoke/MethodHandle" ∧ yX6_kind.cls ≠ "java/lang/invoke/VarHandle" ∧ (parseMethodDescriptor yX6_kind.desc).map (fun d => d.parameters.length) = some 0 := by decide +kernel
theorem hdX6_mayBeTaken : yX6_mayBeTaken.cls ≠ "java/lang/invoke/MethodHandle" ∧ yX6_mayBeTaken.cls ≠ "java/lang/invoke/VarHandle" ∧ (parseMethodDescriptor yX6_mayBeTaken.desc).map (fun d => d.parameters.length) = some 0 := by decide +kernel
theorem hdX7_init : yX7_init.cls ≠ "java/lang/invoke/MethodHandle" ∧ yX7_init.cls ≠ "java/lang/invoke/VarHandle" ∧ (parseMethodDescriptor yX7_init.desc).map (fun d => d.parameters.length) = some 0 := by decide +kernel
theorem hdX7_kind : yX7_kind.cls ≠ "java/lang/invoke/MethodHandle" ∧ yX7_kind.cls ≠ "java/lang/invoke/VarHandle" ∧ (parseMethodDescriptor yX7_kind.desc).map (fun d => d.parameters.length) = some 0 := by decide +kernel
theorem hdX7_tellsMore : yX7_tellsMore.cls ≠ "java/lang/invoke/MethodHandle" ∧ yX7_tellsMore.cls ≠ "java/lang/invoke/VarHandle" ∧ (parseMethodDescriptor yX7_tellsMore.desc).map (fun d => d.parameters.length) = some 0 := by decide +kernel
theorem hdX8_init : yX8_init.cls ≠ "java/lang/invoke/MethodHandle" ∧ yX8_init.cls ≠ "java/lang/invoke/VarHandle" ∧ (parseMethodDescriptor yX8_init.desc).map (fun d => d.parameters.length) = some 0 := by decide +kernel
theorem hdX8_kind : yX8_kind.cls ≠ "java/lang/invoke/MethodHandle" ∧ yX8_kind.cls ≠ "java/lang/invoke/VarHandle" ∧ (parseMethodDescriptor yX8_kind.desc).map (fun d => d.parameters.length) = some 0 := by decide +kernel
theorem hdX8_stays : yX8_stays.cls ≠ "java/lang/invoke/MethodHandle" ∧ yX8_stays.cls ≠ "java/lang/invoke/VarHandle" ∧ (parseMethodDescriptor yX8_stays.desc).map (fun d => d.parameters.length) = some 0 := by decide +kernel
theorem hdX9_init : yX9_init.cls ≠ "java/lang/invoke/MethodHandle" ∧ yX9_init.cls ≠ "java/lang/invoke/VarHandle" ∧ (parseMethodDescriptor yX9_init.desc).map (fun d => d.parameters.length) = some 0 := by decide +kernel
theorem hdX9_isOf : yX9_isOf.cls ≠ "java/lang/invoke/MethodHandle" ∧ yX9_isOf.cls ≠ "java/lang/invoke/VarHandle" ∧ (parseMethodDescriptor yX9_isOf.desc).map (fun d => d.parameters.length) = some 1 := by decide +kernel
theorem hdX9_kind : yX9_kind.cls ≠ "java/lang/invoke/MethodHandle" ∧ yX9_kind.cls ≠ "java/lang/invoke/VarHandle" ∧ (parseMethodDescriptor yX9_kind.desc).map (fun d => d.parameters.length) = some 0 := by decide +kernel
theorem hdX9_mayBePutAnew : yX9_mayBePutAnew.cls ≠ "java/lang/invoke/MethodHandle" ∧ yX9_mayBePutAnew.cls ≠ "java/lang/invoke/VarHandle" ∧ (parseMethodDescriptor yX9_mayBePutAnew.desc).map (fun d => d.parameters.length) = some 0 := by decide +kernel
