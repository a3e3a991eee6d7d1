/-! THE READER: its cells -/
set_option maxRecDepth 100000
section VR
variable {Γ : GX} {k n : Nat} {hp : AH} {pc n' : Nat} {L : List (Option Value)} {st : List Value} {cc : ByteArray} {own : String} {ret : Option FieldType} {l' c' s' : Nat} {de r ax el i : Nat} {p a b f m : Int} {g : Int → Int}
theorem v_want (h : Ok0 cc own ret (rmK l' c' s') Γ) (hde : (gD Γ).2.2.1 = de) {P : Prop} {z : Int} (hz : z = bi P) (hr : hp r = some (rO p a b f el ax)) (hw : GoodIn lw_all (wsV own i yX3_want.cls yX3_want (ws_ yX3_want cX3_want 2 none))) (hR : 5 ≤ l') (hf : k + 1 ≤ c' ∧ n + 7 ≤ s') (hst : (st.map fun v => v.category).sum ≤ 8) (d : decode cc pc = .ok (.invokevirtual i, 3)) (hn : pc + 3 = n')
    (kf : ¬ P → ∀ x hp', StpO hp' x p → Frm (Fsh hp) hp hp' → VT Γ (k + 1) (n + 7) hp' pc L st x) (kt : P → V Γ k n hp n' L st) : V Γ k n hp pc L (.int (iI z) :: .ref r :: st) := by
  by_cases c : P
  · rw [hz, bi_t c]
    exact vc_callV (ci := 3) h ((c_want de hp r).d hde) rfl hr hw hdX3_want ⟨by omega, by decide⟩ ⟨by omega, by omega⟩ hst d hn (eV fun hp' e => by have e := e.symm; subst e; exact kt c) rfl
  · rw [hz, bi_f c]
    exact vt_callV (ci := 3) h ((t_want de hp r ax el p a b f hr).d hde) rfl hr hw (hw _ (by unfold wsV; simp)).1 q88 hdX3_want ⟨by omega, by decide⟩ ⟨by omega, by omega⟩ hst d (fun x hp' e => kf c x hp' e.1 e.2) rfl
theorem v_digit (h : Ok0 cc own ret (rmK l' c' s') Γ) (hde : (gD Γ).2.2.1 = de) (hP : PG hp ax m g) {lo hi : Int} (hb : (0 ≤ p ∧ p ≤ 54) ∧ (0 ≤ lo ∧ lo ≤ 100) ∧ 0 ≤ hi ∧ hi ≤ 100) (hr : hp r = some (rO p a b f el ax)) (hw : GoodIn lw_all (wsV own i yX3_digit.cls yX3_digit (ws_ yX3_digit cX3_digit 3 (some .int)))) (hR : 6 ≤ l') (hf : k + 1 ≤ c' ∧ n + 7 ≤ s') (hst : (st.map fun v => v.category).sum ≤ 8) (d : decode cc pc = .ok (.invokevirtual i, 3)) (hn : pc + 3 = n')
    (kf : ¬ (lo ≤ nx g m p - 48 ∧ nx g m p - 48 ≤ hi) → ∀ x hp', StpO hp' x p → Frm (Fsh hp) hp hp' → VT Γ (k + 1) (n + 7) hp' pc L st x) (kt : (lo ≤ nx g m p - 48 ∧ nx g m p - 48 ≤ hi) → V Γ k n (upH hp r (rO (p + 1) a b f el ax)) n' L (.int (iI (nx g m p - 48)) :: st)) : V Γ k n hp pc L (.int (iI hi) :: .int (iI lo) :: .ref r :: st) := by
  by_cases c : (lo ≤ nx g m p - 48 ∧ nx g m p - 48 ≤ hi)
  · exact vc_callV (ci := 3) h ((c_digit de hp r ax el p a b f m g hr hP hb.1 lo hi hb.2.1 hb.2.2 c).d hde) rfl hr hw hdX3_digit ⟨by omega, by decide⟩ ⟨by omega, by omega⟩ hst d hn (eI fun z hp' e => by
      obtain ⟨e1, e2⟩ := e
      subst e1 e2
      exact kt c) rfl
  · exact vt_callV (ci := 3) h ((t_digit de hp r ax el p a b f m g hr hP hb.1 lo hi hb.2.1 hb.2.2 c).d hde) rfl hr hw (hw _ (by unfold wsV; simp)).1 q88 hdX3_digit ⟨by omega, by decide⟩ ⟨by omega, by omega⟩ hst d (fun x hp' e => kf c x hp' e.1 e.2) rfl
theorem v_takes (h : Ok0 cc own ret (rmK l' c' s') Γ) (hde : (gD Γ).2.2.1 = de) (hP : PG hp ax m g) {y : Int} (hb : (0 ≤ p ∧ p ≤ 54) ∧ 0 ≤ y ∧ y ≤ 200) (hr : hp r = some (rO p a b f el ax)) (hw : GoodIn lw_all (wsV own i yX3_takes.cls yX3_takes (ws_ yX3_takes cX3_takes 3 (some .boolean)))) (hR : 3 ≤ l') (hf : k ≤ c' ∧ n ≤ s') (hst : (st.map fun v => v.category).sum ≤ 8) (d : decode cc pc = .ok (.invokevirtual i, 3)) (hn : pc + 3 = n')
    (kt : nx g m p = y → V Γ k n (upH hp r (rO (p + 1) a b f el ax)) n' L (.int (iI 1) :: st)) (kf : ¬ nx g m p = y → V Γ k n hp n' L (.int (iI 0) :: st)) : V Γ k n hp pc L (.int (iI y) :: .ref r :: st) := by
  refine vc_callV (ci := 3) h ((c_takes de hp r ax el p a b f m g hr hP hb.1 y hb.2).d hde) rfl hr hw hdX3_takes ⟨by omega, by decide⟩ ⟨by omega, by omega⟩ hst d hn (eI fun z hp' e => ?_) rfl
  obtain ⟨e1, e2⟩ := e
  by_cases c : nx g m p = y
  · rw [bi_t c] at e1 e2
    subst e1 e2
    exact kt c
  · rw [bi_f c] at e1 e2
    have e3 : hp' = hp := by
      rw [e2, Int.add_zero]
      funext q
      by_cases cq : q = r
      · rw [cq, upH_s, hr]
      · exact upH_n cq
    subst e1 e3
    exact kf c
end VR
def RW (hp0 : AH) (r : Nat) (xs : List Nat) : Nat → Prop := fun q => hp0 q = none ∧ q ≠ r ∧ q ∉ xs
/-- what entry j of the page is -/
abbrev eP (g : Int → Int) (j : Nat) : va_E := eO (kindBy (g (5 + 6 * (j : Int)))).toNat (KeyAt g (6 + 6 * (j : Int))) (g (9 + 6 * (j : Int)) - 48) none none
def RS (de : Nat) (hp0 hp : AH) (r el ax : Nat) (p a b f : Int) (xs : List Nat) (g : Int → Int) : Prop := Frm (Fsh hp0) hp0 hp ∧ hp r = some (rO p a b f el ax) ∧ hp0 r = none ∧ Ls hp (RW hp0 r xs) de el xs ∧ ∀ (j y : Nat), xs[j]? = some y → hp0 y = none ∧ hp y = some (eP g j)
section RS
variable {de : Nat} {hp0 hp hp' : AH} {r el ax : Nat} {p a b f : Int} {xs : List Nat} {g : Int → Int}
theorem PG.ex {n : Int} (h : PG hp0 ax n g) (F : Frm (Fsh hp0) hp0 hp) : PG hp ax n g := h.frm (fun q c hq _ _ _ => F.ex hq)
theorem RS.pg {n : Int} (h : RS de hp0 hp r el ax p a b f xs g) (hP : PG hp0 ax n g) : PG hp ax n g := hP.ex h.1
theorem RS.stop (h : RS de hp0 hp r el ax p a b f xs g) (F : Frm (Fsh hp) hp hp') : Frm (Fsh hp0) hp0 hp' := h.1.tr (F.wk (fun q hq => h.1.fre Fre.sh q hq))
theorem eP_ne (j : Nat) (fs : List Value) (ci : Nat) (hc : ci = 3 ∨ ci = 10) (hk : kindBy (g (5 + 6 * (j : Int))) ≤ 4) : eP g j ≠ .inr (ci, fs) := by
  intro z
  have := congrArg Prod.fst (Sum.inr.inj z)
  simp at this
  omega
theorem RS.set (h : RS de hp0 hp r el ax p a b f xs g) (p' a' b' f' : Int) : RS de hp0 (upH hp r (rO p' a' b' f' el ax)) r el ax p' a' b' f' xs g := by
  obtain ⟨h1, h2, h3, h4, h5⟩ := h
  refine ⟨h1.tr (Frm.up h3), upH_s, h3, h4.frmO (fun q c hq hw => (upH_n hw.2.1).trans hq), fun j y hy => ⟨(h5 j y hy).1, (upH_n (cell_ne (h5 j y hy).2 h2 (eP_ne j _ 3 (Or.inl rfl) (kindBy_r _).2))).trans (h5 j y hy).2⟩⟩
theorem RS.en (h : RS de hp0 hp r el ax p a b f xs g) : En hp xs := by
  intro y hy
  obtain ⟨j, hj⟩ := List.getElem?_of_mem hy
  have := kindBy_r (g (5 + 6 * (j : Int)))
  exact ⟨_, _, by omega, (h.2.2.2.2 j y hj).2⟩
/-- a new entry's cell -/
theorem RS.made (h : RS de hp0 hp r el ax p a b f xs g) {z : Nat} (hz : hp z = none) (e : va_E) : Frm (Fsh hp0) hp0 (upH hp z e) ∧ (upH hp z e) r = some (rO p a b f el ax) ∧ Ls (upH hp z e) (RW hp0 r (xs ++ [z])) de el xs ∧ Fre (RW hp0 r (xs ++ [z])) (upH hp z e) ∧ (∀ (j y : Nat), xs[j]? = some y → hp0 y = none ∧ y ≠ z ∧ (upH hp z e) y = some (eP g j)) := by
  obtain ⟨h1, h2, h3, h4, h5⟩ := h
  have ne : ∀ {q : Nat} {c : va_E}, hp q = some c → q ≠ z := fun hq w => by rw [w, hz] at hq; cases hq
  have hz0 : hp0 z = none := h1.fre Fre.sh z hz
  refine ⟨h1.tr (Frm.up hz0), (upH_n (ne h2)).trans h2, ?_, ?_, fun j y hy => ⟨(h5 j y hy).1, ne (h5 j y hy).2, (upH_n (ne (h5 j y hy).2)).trans (h5 j y hy).2⟩⟩
  · obtain ⟨arr, q1, ⟨q2, q3, q4⟩, q5⟩ := h4
    refine ⟨arr, (upH_n (ne q1)).trans q1, ⟨q2, q3, ?_⟩, ?_⟩
    · intro w
      rcases List.mem_append.mp w with w | w
      · exact q4 w
      · exact ne q1 (List.mem_singleton.mp w)
    · rcases q5 with q5 | ⟨q5, ⟨q6, q7, q8⟩, q9⟩
      · exact Or.inl q5
      · refine Or.inr ⟨q5, ⟨q6, q7, ?_⟩, (upH_n (ne q9)).trans q9⟩
        intro w
        rcases List.mem_append.mp w with w | w
        · exact q8 w
        · exact ne q9 (List.mem_singleton.mp w)
  · intro q hq
    by_cases c : q = z
    · rw [c, upH_s] at hq; cases hq
    · rw [upH_n c] at hq
      refine ⟨h1.fre Fre.sh q hq, fun w => (by rw [w, h2] at hq; cases hq), fun w => ?_⟩
      rcases List.mem_append.mp w with w | w
      · obtain ⟨j, hj⟩ := List.getElem?_of_mem w
        have := (h5 j q hj).2
        rw [hq] at this; cases this
      · exact c (List.mem_singleton.mp w)
/-- and behind its adding -/
theorem RS.add (h : RS de hp0 hp r el ax p a b f xs g) {z : Nat} (hz : hp z = none) {e : va_E} (he : e = eP g xs.length) (hl : Ls hp' (RW hp0 r (xs ++ [z])) de el (xs ++ [z])) (F : Frm (RW hp0 r (xs ++ [z])) (upH hp z e) hp') : RS de hp0 hp' r el ax p a b f (xs ++ [z]) g := by
  obtain ⟨m1, m2, m3, m4, m5⟩ := h.made hz e
  refine ⟨m1.tr (F.wk (fun q hq => hq.1)), F.at m2 (fun w => w.2.1 rfl), h.2.2.1, hl, fun j y hy => ?_⟩
  have hmem : y ∈ xs ++ [z] := List.mem_of_getElem? hy
  have hno : ¬ RW hp0 r (xs ++ [z]) y := fun w => w.2.2 hmem
  by_cases c : j < xs.length
  · rw [List.getElem?_append_left c] at hy
    obtain ⟨k1, k2, k3⟩ := m5 j y hy
    exact ⟨k1, F.at k3 hno⟩
  · have hj : j = xs.length := by
      have := (List.getElem?_eq_some_iff.mp hy).1
      rw [List.length_append] at this
      simp at this
      omega
    subst hj
    rw [List.getElem?_append_right (Nat.le_refl _), Nat.sub_self] at hy
    have hyz : z = y := by simpa using hy
    subst hyz
    exact ⟨h.1.fre Fre.sh _ hz, F.at (by rw [upH_s, he]) hno⟩
end RS
