/-! MODEL 20: the constructor -/
set_option maxRecDepth 100000
def pV (ad : Nat → Nat) (F : Nat) (k : Nat) : Value := if k = 49 then .long (lI 0) else if mLen k = 0 then .int (iI 0) else if k < F then .ref (ad k) else .null
def pF (ad : Nat → Nat) (F : Nat) : List Value := (List.range 50).map (pV ad F)
noncomputable def pH (ad : Nat → Nat) (F : Nat) : AH := by
  classical
  exact fun a => if a = ad 50 then some (.inr (2, pF ad F)) else if h : ∃ k, k < F ∧ mLen k ≠ 0 ∧ ad k = a then some (.inl (0, mLen h.choose, .inl (fun _ => 0))) else none
def PaOk (ad : Nat → Nat) (F : Nat) : Prop := ∀ i j, ((i < F ∧ mLen i ≠ 0) ∨ i = 50) → ((j < F ∧ mLen j ≠ 0) ∨ j = 50) → ad i = ad j → i = j
theorem pH_obj {ad : Nat → Nat} {F : Nat} : pH ad F (ad 50) = some (.inr (2, pF ad F)) := by
  unfold pH
  exact if_pos rfl
theorem pH_arr {ad : Nat → Nat} {F k : Nat} (hok : PaOk ad F) (hk : k < F) (hl : mLen k ≠ 0) : pH ad F (ad k) = some (.inl (0, mLen k, .inl (fun _ => 0))) := by
  have h1 : ¬ ad k = ad 50 := fun e => by
    have := hok k 50 (Or.inl ⟨hk, hl⟩) (Or.inr rfl) e
    subst this
    exact hl rfl
  have h2 : ∃ j, j < F ∧ mLen j ≠ 0 ∧ ad j = ad k := ⟨k, hk, hl, rfl⟩
  have h3 : h2.choose = k := hok _ _ (Or.inl ⟨h2.choose_spec.1, h2.choose_spec.2.1⟩) (Or.inl ⟨hk, hl⟩) h2.choose_spec.2.2
  unfold pH
  rw [if_neg h1, dif_pos h2, h3]
theorem pH_cases {ad : Nat → Nat} {F a : Nat} {e : va_E} (h : pH ad F a = some e) : a = ad 50 ∨ ∃ k, k < F ∧ mLen k ≠ 0 ∧ ad k = a := by
  by_cases c : a = ad 50
  · exact Or.inl c
  · refine Or.inr (Classical.byContradiction (fun z => ?_))
    unfold pH at h
    rw [if_neg c, dif_neg z] at h
    cases h
theorem pF_set {ad : Nat → Nat} {F f q : Nat} (hf : f < 50) (hl : mLen f ≠ 0) (hF : F ≤ f ∧ ∀ k, F ≤ k → k < f → mLen k = 0) : (pF ad F).set f (.ref q) = pF (fun k => if k = f then q else ad k) (f + 1) := by
  refine List.ext_getElem (by simp [pF]) (fun i h1 h2 => ?_)
  rw [List.getElem_set]
  have hi : i < 50 := by simpa [pF] using h2
  have e1 : ∀ h, (pF (fun k => if k = f then q else ad k) (f + 1))[i]'h = pV (fun k => if k = f then q else ad k) (f + 1) i := by intro h; simp [pF]
  have e2 : ∀ h, (pF ad F)[i]'h = pV ad F i := by intro h; simp [pF]
  rw [e1, e2]
  have h49 : f ≠ 49 := fun e => hl (by rw [e]; rfl)
  by_cases c : f = i
  · subst c
    unfold pV
    rw [if_pos rfl, if_neg h49, if_neg hl, if_pos (by omega)]
    exact congrArg Value.ref (if_pos rfl).symm
  · rw [if_neg c]
    unfold pV
    by_cases c1 : i = 49
    · rw [if_pos c1, if_pos c1]
    · rw [if_neg c1, if_neg c1]
      by_cases c2 : mLen i = 0
      · rw [if_pos c2, if_pos c2]
      · rw [if_neg c2, if_neg c2]
        by_cases c3 : i < F
        · rw [if_pos c3, if_pos (by omega)]
          exact congrArg Value.ref (if_neg (fun z : i = f => c z.symm)).symm
        · rw [if_neg c3, if_neg (fun z => c2 (hF.2 i (by omega) (by omega)))]
section VI
variable {Γ : GX} {k n : Nat} {ad : Nat → Nat} {pc : Nat} {L : List (Option Value)} {st : List Value} {cc : ByteArray} {ret : Option FieldType} {R : Room}
theorem vi_arr (h : Ok0 cc "CreditShelfModel" ret R Γ) (hini : (gMt Γ).name = "<init>") {F i : Nat} (f N : Nat) (hf : f < 50 ∧ mLen f = N ∧ N ≠ 0 ∧ tyX2 f = .array .int ∧ (TX2 f).2.2.2 = true) (hN : N ≤ 1000) {a0 : Nat} (ha : ad 50 = a0) (hF' : F ≤ f ∧ ∀ k, k < f → F ≤ k → mLen k = 0) (hok : PaOk ad F) (hw : Cond.fieldLink "CreditShelfModel" i "CreditShelfModel" (TX2 f).2.1 (TX2 f).2.2.1 ∈ lw_all) (d : decode cc pc = .ok (.newarray .int, 2)) (d2 : decode cc (pc + 2) = .ok (.putfield i, 3)) (hk : k + 1 ≤ R.cells) (hs : n + N ≤ R.slots)
    (kk : ∀ ad' : Nat → Nat, ad' 50 = a0 → PaOk ad' (f + 1) → V Γ (k + 1) (n + N) (pH ad' (f + 1)) (pc + 2 + 3) L st) : V Γ k n (pH ad F) pc L (.int (iI (N : Int)) :: .ref a0 :: st) := by
  subst ha
  have hF : F ≤ f ∧ ∀ k, F ≤ k → k < f → mLen k = 0 := ⟨hF'.1, fun k h1 h2 => hF'.2 k h2 h1⟩
  have hl : mLen f ≠ 0 := by rw [hf.2.1]; exact hf.2.2.1
  refine v_newa (ty := .int) (t := 0) h rfl q186 rfl rfl (by decide) (fun cA z => z) d rfl (by omega) hk (by rw [Int.toNat_natCast]; exact hs) (fun q hq => ?_)
  have n50 : q ≠ ad 50 := fun z => by rw [z, pH_obj] at hq; cases hq
  have nk : ∀ j, j < F → mLen j ≠ 0 → ad j ≠ q := fun j h1 h2 z => by rw [← z, pH_arr hok h1 h2] at hq; cases hq
  refine v_putF (ci := 2) (a := ad 50) h rfl in_X2 tyX2 tyX2_ok nmX2 f hf.1 hw (TX2_1 f).symm hf.2.2.2.2 hini (TX2_1 f) d2 rfl (by rw [upH_n (fun z => n50 z.symm)]; exact pH_obj) (by simp [pF]; exact hf.1) (by rw [hf.2.2.2.1]; rfl) (by rw [hf.2.2.2.1]; rfl) ?_
  have f50 : f ≠ 50 := by omega
  have ok' : PaOk (fun k => if k = f then q else ad k) (f + 1) := by
    intro a b ha hb e
    dsimp only at e
    have old : ∀ x, ((x < f + 1 ∧ mLen x ≠ 0) ∨ x = 50) → x ≠ f → ((x < F ∧ mLen x ≠ 0) ∨ x = 50) ∧ ad x ≠ q := by
      intro x hx hxf
      rcases hx with ⟨x1, x2⟩ | rfl
      · have : x < F := by
          rcases Nat.lt_or_ge x F with c | c
          · exact c
          · exact absurd (hF.2 x c (by omega)) x2
        exact ⟨Or.inl ⟨this, x2⟩, nk x this x2⟩
      · exact ⟨Or.inr rfl, fun z => n50 z.symm⟩
    by_cases ca : a = f
    · rw [if_pos ca] at e
      by_cases cb : b = f
      · rw [ca, cb]
      · rw [if_neg cb] at e
        exact absurd e.symm (old b hb cb).2
    · rw [if_neg ca] at e
      by_cases cb : b = f
      · rw [if_pos cb] at e
        exact absurd e (old a ha ca).2
      · rw [if_neg cb] at e
        exact hok a b (old a ha ca).1 (old b hb cb).1 e
  have kk := kk (fun k => if k = f then q else ad k) (if_neg (fun z => f50 z.symm)) ok'
  refine V.less (hp2 := pH (fun k => if k = f then q else ad k) (f + 1)) (fun a e he => ?_) kk
  have e50 : (fun k => if k = f then q else ad k) 50 = ad 50 := if_neg (fun z => f50 z.symm)
  rcases pH_cases he with rfl | ⟨j, j1, j2, rfl⟩
  · rw [pH_obj] at he
    rw [if_neg (fun z => f50 z.symm), upH_s, pF_set hf.1 hl hF]
    exact he
  · rw [pH_arr ok' j1 j2] at he
    by_cases cj : j = f
    · subst cj
      rw [if_pos rfl, upH_n n50, upH_s, Int.toNat_natCast, ← hf.2.1]
      exact he
    · have jF : j < F := by
        rcases Nat.lt_or_ge j F with c | c
        · exact c
        · exact absurd (hF.2 j c (by omega)) j2
      rw [if_neg cj, upH_n (fun z => by have := hok j 50 (Or.inl ⟨jF, j2⟩) (Or.inr rfl) z; exact j2 (by rw [this]; rfl)), upH_n (nk j jF j2), pH_arr hok jF j2]
      exact he
end VI
