/-! FRAMEWORK 3: results by kind; the model's world -/
set_option maxRecDepth 100000
def rI (post : Int → AH → Prop) : Option Value → AH → Prop := fun r hp => ∃ z : Int, r = some (.int (iI z)) ∧ post z hp
def rJ (post : Int → AH → Prop) : Option Value → AH → Prop := fun r hp => ∃ z : Int, r = some (.long (lI z)) ∧ post z hp
def rV (post : AH → Prop) : Option Value → AH → Prop := fun r hp => r = none ∧ post hp
def rQ (post : Option Nat → AH → Prop) : Option Value → AH → Prop := fun r hp => ∃ o : Option Nat, r = some (va_rf o) ∧ post o hp
def rR (post : Nat → AH → Prop) : Option Value → AH → Prop := fun r hp => ∃ o : Nat, r = some (.ref o) ∧ post o hp
/-- a room by its level -/
abbrev rmL (l : Nat) : Room := { frames := l, cells := 0, slots := 0, locals := 60 * l }
section RK
variable {Γ : GX} {k n : Nat} {hp hpc : AH} {pc n' : Nat} {L : List (Option Value)} {st : List Value} {cc : ByteArray} {own : String} {ret : Option FieldType} {R : Room}
  {y : MethodName} {b : ByteArray} {nL2 : Nat} {ret2 : Option FieldType} {rm : Room} {As : List Value} {i : Nat}
theorem kI {post : Int → AH → Prop} {k n : Nat} (kk : ∀ z hp', post z hp' → V Γ k n (mrg hp hpc hp') n' L (.int (iI z) :: st)) : ∀ r hp', rI post r hp' → V Γ k n (mrg hp hpc hp') n' L (r.toList ++ st) := by
  rintro r hp' ⟨z, rfl, h⟩
  exact kk z hp' h
theorem kJ {post : Int → AH → Prop} {k n : Nat} (kk : ∀ z hp', post z hp' → V Γ k n (mrg hp hpc hp') n' L (.long (lI z) :: st)) : ∀ r hp', rJ post r hp' → V Γ k n (mrg hp hpc hp') n' L (r.toList ++ st) := by
  rintro r hp' ⟨z, rfl, h⟩
  exact kk z hp' h
theorem kV {post : AH → Prop} {k n : Nat} (kk : ∀ hp', post hp' → V Γ k n (mrg hp hpc hp') n' L st) : ∀ r hp', rV post r hp' → V Γ k n (mrg hp hpc hp') n' L (r.toList ++ st) := by
  rintro r hp' ⟨rfl, h⟩
  exact kk hp' h
theorem kQ {post : Option Nat → AH → Prop} {k n : Nat} (kk : ∀ z hp', post z hp' → V Γ k n (mrg hp hpc hp') n' L (va_rf z :: st)) : ∀ r hp', rQ post r hp' → V Γ k n (mrg hp hpc hp') n' L (r.toList ++ st) := by
  rintro r hp' ⟨z, rfl, h⟩
  exact kk z hp' h
theorem kR {post : Nat → AH → Prop} {k n : Nat} (kk : ∀ z hp', post z hp' → V Γ k n (mrg hp hpc hp') n' L (.ref z :: st)) : ∀ r hp', rR post r hp' → V Γ k n (mrg hp hpc hp') n' L (r.toList ++ st) := by
  rintro r hp' ⟨z, rfl, h⟩
  exact kk z hp' h
/-- a static call that leaves the heap as it is, of a level -/
theorem vs_callI {l : Nat} {f : Int → Prop} (h : Ok0 cc own ret R Γ) (hM : ∀ hp : AH, Ct y b nL2 ret2 (rmL l) As hp (rI (fun z hp' => f z ∧ hp' = hp))) (hw : GoodIn lw_all (va_wsS own i y (ws_ y b nL2 ret2)))
    (hd : y.cls ≠ "java/lang/invoke/MethodHandle" ∧ y.cls ≠ "java/lang/invoke/VarHandle" ∧ (parseMethodDescriptor y.desc).map (fun d => d.parameters.length) = some As.length) (hl : l + 1 ≤ R.frames ∧ 8 + (nL2 + 11) + 60 * l ≤ R.locals) (hf : k ≤ R.cells ∧ n ≤ R.slots) (hst : (st.map fun v => v.category).sum ≤ 8) (d : decode cc pc = .ok (.invokestatic i, 3)) (hn : pc + 3 = n')
    {st0 : List Value} (hs0 : st0 = As.reverse ++ st) (kk : ∀ z, f z → V Γ k n hp n' L (.int (iI z) :: st)) : V Γ k n hp pc L st0 := by
  refine v_callS h (hM hp) (fun _ _ e => e) hw hd hl hf hst d hn (kI fun z hp' q => ?_) hs0
  rw [mrg_self]
  obtain ⟨q, rfl⟩ := q
  exact kk z q
end RK
theorem ret_i {z : Int} {hp : AH} {post : Int → AH → Prop} (h : post z hp) : rI post (some (.int (iI z))) hp := ⟨z, rfl, h⟩
theorem ret_j {z : Int} {hp : AH} {post : Int → AH → Prop} (h : post z hp) : rJ post (some (.long (lI z))) hp := ⟨z, rfl, h⟩
theorem ret_v {hp : AH} {post : AH → Prop} (h : post hp) : rV post none hp := ⟨rfl, h⟩
/-! the model: its int fields and its arrays by their places in TX2 -/
abbrev MS : Type := (Nat → Int) × (Nat → Int → Int)
def setI (σ : MS) (f : Nat) (v : Int) : MS := (fun g => if g = f then v else σ.1 g, σ.2)
def setA (σ : MS) (f : Nat) (i v : Int) : MS := (σ.1, fun g j => if g = f ∧ j = i then v else σ.2 g j)
theorem setI_1s {σ : MS} {f : Nat} {v : Int} : (setI σ f v).1 f = v := if_pos rfl
theorem setI_1n {σ : MS} {f g : Nat} {v : Int} (h : g ≠ f) : (setI σ f v).1 g = σ.1 g := if_neg h
theorem setI_2 {σ : MS} {f : Nat} {v : Int} : (setI σ f v).2 = σ.2 := rfl
theorem setA_1 {σ : MS} {f : Nat} {i v : Int} : (setA σ f i v).1 = σ.1 := rfl
theorem setA_2s {σ : MS} {f : Nat} {i v : Int} : (setA σ f i v).2 f i = v := if_pos ⟨rfl, rfl⟩
theorem setA_2n {σ : MS} {f g : Nat} {i j v : Int} (h : j ≠ i) : (setA σ f i v).2 g j = σ.2 g j := if_neg (fun e => h e.2)
theorem setA_2o {σ : MS} {f g : Nat} {i j v : Int} (h : g ≠ f) : (setA σ f i v).2 g j = σ.2 g j := if_neg (fun e => h e.1)
theorem setA_2 {σ : MS} {f g : Nat} {i j v : Int} : (setA σ f i v).2 g j = if g = f ∧ j = i then v else σ.2 g j := rfl
theorem setI_1 {σ : MS} {f g : Nat} {v : Int} : (setI σ f v).1 g = if g = f then v else σ.1 g := rfl
def mLen (k : Nat) : Nat := match k with
  | 0 => 54 | 2 => 200 | 3 => 200 | 4 => 200 | 5 => 200 | 6 => 2 | 7 => 2 | 8 => 2 | 10 => 2 | 11 => 2 | 12 => 100 | 13 => 100 | 21 => 60 | 24 => 40 | 25 => 41 | 26 => 41 | 27 => 41 | 29 => 18
  | 41 => 200 | 42 => 200 | 43 => 200 | 44 => 200 | 45 => 100 | 46 => 100 | 47 => 60 | 48 => 18 | _ => 0
def mV (ad : Nat → Nat) (σ : MS) (k : Nat) : Value := if k = 49 then .long (lI (σ.1 49)) else if mLen k = 0 then .int (iI (σ.1 k)) else .ref (ad k)
def mF (ad : Nat → Nat) (σ : MS) : List Value := (List.range 50).map (mV ad σ)
def mA (σ : MS) (k : Nat) : Nat → Int32 := fun j => iI (σ.2 k (j : Int))
noncomputable def mH (ad : Nat → Nat) (σ : MS) : AH := by
  classical
  exact fun a => if a = ad 50 then some (.inr (2, mF ad σ)) else if h : ∃ k, mLen k ≠ 0 ∧ ad k = a then some (.inl (0, mLen h.choose, .inl (mA σ h.choose))) else none
def AdOk (ad : Nat → Nat) : Prop := ∀ i j, (mLen i ≠ 0 ∨ i = 50) → (mLen j ≠ 0 ∨ j = 50) → ad i = ad j → i = j
def MR (σ : MS) : Prop := (∀ k, k ≠ 49 → -2147483648 ≤ σ.1 k ∧ σ.1 k ≤ 2147483647) ∧ ∀ k i, -2147483648 ≤ σ.2 k i ∧ σ.2 k i ≤ 2147483647
theorem MR.sI {σ : MS} {f : Nat} {v : Int} (h : MR σ) (hv : -2147483648 ≤ v ∧ v ≤ 2147483647) : MR (setI σ f v) := by
  refine ⟨fun k hk => ?_, h.2⟩
  rw [setI_1]
  split
  · exact hv
  · exact h.1 k hk
theorem MR.sL {σ : MS} {v : Int} (h : MR σ) : MR (setI σ 49 v) := by
  refine ⟨fun k hk => ?_, h.2⟩
  rw [setI_1n hk]
  exact h.1 k hk
theorem MR.sA {σ : MS} {f : Nat} {i v : Int} (h : MR σ) (hv : -2147483648 ≤ v ∧ v ≤ 2147483647) : MR (setA σ f i v) := by
  refine ⟨h.1, fun k j => ?_⟩
  rw [setA_2]
  split
  · exact hv
  · exact h.2 k j
theorem mLen_50 : mLen 50 = 0 := rfl
theorem mH_obj {ad : Nat → Nat} {σ : MS} : mH ad σ (ad 50) = some (.inr (2, mF ad σ)) := by
  unfold mH
  exact if_pos rfl
theorem mH_arr {ad : Nat → Nat} {σ : MS} {k : Nat} (hok : AdOk ad) (hk : mLen k ≠ 0) : mH ad σ (ad k) = some (.inl (0, mLen k, .inl (mA σ k))) := by
  have h1 : ¬ ad k = ad 50 := fun e => by
    have := hok k 50 (Or.inl hk) (Or.inr rfl) e
    subst this
    exact hk rfl
  have h2 : ∃ j, mLen j ≠ 0 ∧ ad j = ad k := ⟨k, hk, rfl⟩
  have h3 : h2.choose = k := hok _ _ (Or.inl h2.choose_spec.1) (Or.inl hk) h2.choose_spec.2
  unfold mH
  rw [if_neg h1, dif_pos h2, h3]
theorem mH_none {ad : Nat → Nat} {σ : MS} {a : Nat} (h1 : a ≠ ad 50) (h2 : ∀ k, mLen k ≠ 0 → ad k ≠ a) : mH ad σ a = none := by
  unfold mH
  rw [if_neg h1, dif_neg]
  rintro ⟨k, h3, h4⟩
  exact h2 k h3 h4
theorem mF_get {ad : Nat → Nat} {σ : MS} {f : Nat} (hf : f < 50) : (mF ad σ)[f]? = some (mV ad σ f) := by
  unfold mF
  rw [List.getElem?_map, List.getElem?_range hf]
  rfl
theorem mF_set {ad : Nat → Nat} {σ : MS} {f : Nat} {v : Int} {w : Value} (hf : f < 50) (h0 : mLen f = 0) (hw : w = mV ad (setI σ f v) f) : (mF ad σ).set f w = mF ad (setI σ f v) := by
  apply List.ext_getElem?
  intro i
  by_cases hi : i < 50
  · rw [mF_get hi]
    by_cases c : i = f
    · subst c
      rw [List.getElem?_set_self (by simp [mF]; exact hf), hw]
    · rw [List.getElem?_set_ne (Ne.symm c), mF_get hi]
      unfold mV
      by_cases h49 : i = 49
      · rw [if_pos h49, if_pos h49, setI_1n (by omega)]
      · rw [if_neg h49, if_neg h49, setI_1n c]
  · rw [List.getElem?_eq_none (by simp [mF]; omega), List.getElem?_eq_none (by simp [mF]; omega)]
theorem mH_put {ad : Nat → Nat} {σ : MS} {f : Nat} {v : Int} {w : Value} (hf : f < 50) (h0 : mLen f = 0) (hw : w = mV ad (setI σ f v) f) : upH (mH ad σ) (ad 50) (.inr (2, (mF ad σ).set f w)) = mH ad (setI σ f v) := by
  rw [mF_set hf h0 hw]
  funext a
  unfold upH
  by_cases c : a = ad 50
  · rw [if_pos c, c, mH_obj]
  · rw [if_neg c]
    unfold mH
    rw [if_neg c, if_neg c]
    rfl
theorem mH_ast {ad : Nat → Nat} {σ : MS} {f : Nat} {i v : Int} (hok : AdOk ad) (hf : mLen f ≠ 0) (hi : 0 ≤ i) : upH (mH ad σ) (ad f) (.inl (0, mLen f, .inl (upd (mA σ f) i.toNat (iI v)))) = mH ad (setA σ f i v) := by
  have e : ∀ g, mA (setA σ f i v) g = if g = f then upd (mA σ f) i.toNat (iI v) else mA σ g := by
    intro g
    by_cases c : g = f
    · subst c
      rw [if_pos rfl]
      funext j
      unfold mA upd
      rw [setA_2]
      by_cases c2 : j = i.toNat
      · rw [if_pos c2, if_pos ⟨rfl, by omega⟩]
      · rw [if_neg c2, if_neg (fun z => c2 (by omega))]
    · rw [if_neg c]
      funext j
      unfold mA
      rw [setA_2o c]
  have e2 : mF ad (setA σ f i v) = mF ad σ := rfl
  funext a
  unfold upH
  by_cases c : a = ad f
  · rw [if_pos c, c, mH_arr hok hf, e, if_pos rfl]
  · rw [if_neg c]
    by_cases c1 : a = ad 50
    · rw [c1, mH_obj, mH_obj, e2]
    · by_cases c2 : ∃ k, mLen k ≠ 0 ∧ ad k = a
      · obtain ⟨g, h1, rfl⟩ := c2
        rw [mH_arr hok h1, mH_arr hok h1, e, if_neg (fun z => c (by rw [z]))]
      · rw [mH_none c1 (fun k h1 h2 => c2 ⟨k, h1, h2⟩), mH_none c1 (fun k h1 h2 => c2 ⟨k, h1, h2⟩)]
theorem TX2_1 (f : Nat) : (TX2 f).1 = "CreditShelfModel" := by
  unfold TX2
  split <;> rfl
section VM
variable {Γ : GX} {k n : Nat} {ad : Nat → Nat} {σ : MS} {pc n' : Nat} {L : List (Option Value)} {st : List Value} {cc : ByteArray} {own : String} {ret : Option FieldType} {R : Room}
theorem vm_geti (h : Ok0 cc own ret R Γ) (hm : MR σ) (f : Nat) (hf : f < 50 ∧ mLen f = 0 ∧ f ≠ 49) {i : Nat} (hw : Cond.fieldLink own i "CreditShelfModel" (TX2 f).2.1 (TX2 f).2.2.1 ∈ lw_all) (d : decode cc pc = .ok (.getfield i, 3)) (hn : pc + 3 = n') (kk : -2147483648 ≤ σ.1 f ∧ σ.1 f ≤ 2147483647 → V Γ k n (mH ad σ) n' L (.int (iI (σ.1 f)) :: st)) : V Γ k n (mH ad σ) pc L (.ref (ad 50) :: st) := by
  refine v_get (ci := 2) h rfl in_X2 f hf.1 hw (TX2_1 f).symm d hn mH_obj (mF_get hf.1) ?_
  unfold mV
  rw [if_neg hf.2.2, if_pos hf.2.1]
  exact kk (hm.1 f hf.2.2)
theorem vm_getl (h : Ok0 cc own ret R Γ) {i : Nat} (hw : Cond.fieldLink own i "CreditShelfModel" (TX2 49).2.1 (TX2 49).2.2.1 ∈ lw_all) (d : decode cc pc = .ok (.getfield i, 3)) (hn : pc + 3 = n') (kk : V Γ k n (mH ad σ) n' L (.long (lI (σ.1 49)) :: st)) : V Γ k n (mH ad σ) pc L (.ref (ad 50) :: st) := v_get (ci := 2) h rfl in_X2 49 (by decide) hw (TX2_1 49).symm d hn mH_obj (mF_get (by decide)) kk
theorem vm_geta (h : Ok0 cc own ret R Γ) (f : Nat) (hf : f < 50 ∧ mLen f ≠ 0) {i : Nat} (hw : Cond.fieldLink own i "CreditShelfModel" (TX2 f).2.1 (TX2 f).2.2.1 ∈ lw_all) (d : decode cc pc = .ok (.getfield i, 3)) (hn : pc + 3 = n') (kk : V Γ k n (mH ad σ) n' L (.ref (ad f) :: st)) : V Γ k n (mH ad σ) pc L (.ref (ad 50) :: st) := by
  refine v_get (ci := 2) h rfl in_X2 f hf.1 hw (TX2_1 f).symm d hn mH_obj (mF_get hf.1) ?_
  unfold mV
  rw [if_neg (fun e => hf.2 (by rw [e]; rfl)), if_neg hf.2]
  exact kk
theorem vm_puti (h : Ok0 cc own ret R Γ) (hm : MR σ) (f : Nat) (hf : f < 50 ∧ mLen f = 0 ∧ f ≠ 49 ∧ tyX2 f = .int ∧ (TX2 f).2.2.2 = false) {i : Nat} {v : Int} (hw : Cond.fieldLink own i "CreditShelfModel" (TX2 f).2.1 (TX2 f).2.2.1 ∈ lw_all) (d : decode cc pc = .ok (.putfield i, 3)) (hn : pc + 3 = n') (hv : -2147483648 ≤ v ∧ v ≤ 2147483647) (kk : MR (setI σ f v) → V Γ k n (mH ad (setI σ f v)) n' L st) : V Γ k n (mH ad σ) pc L (.int (iI v) :: .ref (ad 50) :: st) := by
  refine v_put (ci := 2) h rfl in_X2 tyX2 tyX2_ok nmX2 f hf.1 hw (TX2_1 f).symm hf.2.2.2.2 d hn mH_obj (by simp [mF]; exact hf.1) (by rw [hf.2.2.2.1]; rfl) (by rw [hf.2.2.2.1]; rfl) ?_
  rw [mH_put hf.1 hf.2.1 (by unfold mV; rw [if_neg hf.2.2.1, if_pos hf.2.1, setI_1s])]
  exact kk (hm.sI hv)
theorem vm_putl (h : Ok0 cc own ret R Γ) (hm : MR σ) {i : Nat} {v : Int} (hw : Cond.fieldLink own i "CreditShelfModel" (TX2 49).2.1 (TX2 49).2.2.1 ∈ lw_all) (d : decode cc pc = .ok (.putfield i, 3)) (hn : pc + 3 = n') (kk : MR (setI σ 49 v) → V Γ k n (mH ad (setI σ 49 v)) n' L st) : V Γ k n (mH ad σ) pc L (.long (lI v) :: .ref (ad 50) :: st) := by
  refine v_put (ci := 2) h rfl in_X2 tyX2 tyX2_ok nmX2 49 (by decide) hw (TX2_1 49).symm rfl d hn mH_obj (by simp [mF]) rfl rfl ?_
  rw [mH_put (by decide) rfl (by unfold mV; rw [if_pos rfl, setI_1s])]
  exact kk hm.sL
theorem vm_iald (h : Ok0 cc own ret R Γ) (hok : AdOk ad) (hm : MR σ) (f : Nat) (N : Nat) (hf : mLen f = N ∧ N ≠ 0) {i : Int} (d : decode cc pc = .ok (.iaload, 1)) (hn : pc + 1 = n') (hi : 0 ≤ i ∧ i < (N : Int)) (hN : N ≤ 200) (kk : -2147483648 ≤ σ.2 f i ∧ σ.2 f i ≤ 2147483647 → V Γ k n (mH ad σ) n' L (.int (iI (σ.2 f i)) :: st)) : V Γ k n (mH ad σ) pc L (.int (iI i) :: .ref (ad f) :: st) := by
  obtain ⟨rfl, hf⟩ := hf
  refine v_iald h d hn (mH_arr hok hf) hi (by omega) ?_
  have e : mA σ f i.toNat = iI (σ.2 f i) := by
    unfold mA
    rw [Int.toNat_of_nonneg hi.1]
  rw [e]
  exact kk (hm.2 f i)
theorem vm_iast (h : Ok0 cc own ret R Γ) (hok : AdOk ad) (hm : MR σ) (f : Nat) (N : Nat) (hf : mLen f = N ∧ N ≠ 0) {i v : Int} (d : decode cc pc = .ok (.iastore, 1)) (hn : pc + 1 = n') (hi : 0 ≤ i ∧ i < (N : Int)) (hN : N ≤ 200) (hv : -2147483648 ≤ v ∧ v ≤ 2147483647) (kk : MR (setA σ f i v) → V Γ k n (mH ad (setA σ f i v)) n' L st) : V Γ k n (mH ad σ) pc L (.int (iI v) :: .int (iI i) :: .ref (ad f) :: st) := by
  obtain ⟨rfl, hf⟩ := hf
  refine v_iast h d hn (mH_arr hok hf) hi (by omega) ?_
  rw [mH_ast hok hf hi.1]
  exact kk (hm.sA hv)
theorem vm_alen (h : Ok0 cc own ret R Γ) (hok : AdOk ad) (f : Nat) (N : Nat) (hf : mLen f = N ∧ N ≠ 0) (d : decode cc pc = .ok (.arraylength, 1)) (hn : pc + 1 = n') (kk : V Γ k n (mH ad σ) n' L (.int (iI (N : Int)) :: st)) : V Γ k n (mH ad σ) pc L (.ref (ad f) :: st) := by
  obtain ⟨rfl, hf⟩ := hf
  exact v_alen h d hn (mH_arr hok hf) (by decide) kk
end VM
/-! contracts of the model's methods -/
def MCi (y : MethodName) (b : ByteArray) (nL : Nat) (ret : Option FieldType) (l : Nat) (As : List Value) (σ : MS) (post : Int → MS → Prop) : Prop :=
  ∀ ad, AdOk ad → MR σ → Ct y b nL ret (rmL l) (.ref (ad 50) :: As) (mH ad σ) (rI (fun z hp' => ∃ σ', hp' = mH ad σ' ∧ MR σ' ∧ post z σ'))
def MCj (y : MethodName) (b : ByteArray) (nL : Nat) (ret : Option FieldType) (l : Nat) (As : List Value) (σ : MS) (post : Int → MS → Prop) : Prop :=
  ∀ ad, AdOk ad → MR σ → Ct y b nL ret (rmL l) (.ref (ad 50) :: As) (mH ad σ) (rJ (fun z hp' => ∃ σ', hp' = mH ad σ' ∧ MR σ' ∧ post z σ'))
def MCv (y : MethodName) (b : ByteArray) (nL : Nat) (ret : Option FieldType) (l : Nat) (As : List Value) (σ : MS) (post : MS → Prop) : Prop :=
  ∀ ad, AdOk ad → MR σ → Ct y b nL ret (rmL l) (.ref (ad 50) :: As) (mH ad σ) (rV (fun hp' => ∃ σ', hp' = mH ad σ' ∧ MR σ' ∧ post σ'))
abbrev PI (ad : Nat → Nat) (post : Int → MS → Prop) : Option Value → AH → Prop := rI (fun z hp' => ∃ σ', hp' = mH ad σ' ∧ MR σ' ∧ post z σ')
abbrev PV (ad : Nat → Nat) (post : MS → Prop) : Option Value → AH → Prop := rV (fun hp' => ∃ σ', hp' = mH ad σ' ∧ MR σ' ∧ post σ')
abbrev PJ (ad : Nat → Nat) (post : Int → MS → Prop) : Option Value → AH → Prop := rJ (fun z hp' => ∃ σ', hp' = mH ad σ' ∧ MR σ' ∧ post z σ')
section VMC
variable {Γ : GX} {k n : Nat} {ad : Nat → Nat} {σ : MS} {pc n' : Nat} {L : List (Option Value)} {st : List Value} {cc : ByteArray} {own : String} {ret : Option FieldType} {R : Room}
  {y : MethodName} {b : ByteArray} {nL2 : Nat} {ret2 : Option FieldType} {As : List Value} {i l : Nat} {st0 : List Value}
theorem vm_callI {post : Int → MS → Prop} (h : Ok0 cc own ret R Γ) (hok : AdOk ad) (hm : MR σ) (hM : MCi y b nL2 ret2 l As σ post) (hy : y.cls = "CreditShelfModel") (hw : GoodIn lw_all (wsV own i y.cls y (ws_ y b nL2 ret2)))
    (hd : y.cls ≠ "java/lang/invoke/MethodHandle" ∧ y.cls ≠ "java/lang/invoke/VarHandle" ∧ (parseMethodDescriptor y.desc).map (fun d => d.parameters.length) = some As.length) (hl : l + 1 ≤ R.frames ∧ 8 + (nL2 + 11) + 60 * l ≤ R.locals) (hf : k ≤ R.cells ∧ n ≤ R.slots) (hst : (st.map fun v => v.category).sum ≤ 8) (d : decode cc pc = .ok (.invokevirtual i, 3)) (hn : pc + 3 = n') (hs0 : st0 = As.reverse ++ .ref (ad 50) :: st)
    (kk : ∀ z σ', post z σ' → MR σ' → V Γ k n (mH ad σ') n' L (.int (iI z) :: st)) : V Γ k n (mH ad σ) pc L st0 := by
  refine v_callV (ci := 2) h (hM ad hok hm) (fun _ _ e => e) (by rw [hy]; rfl) mH_obj hw hd hl hf hst d hn (kI fun z hp' q => ?_) hs0
  rw [mrg_self]
  obtain ⟨σ', rfl, q1, q2⟩ := q
  exact kk z σ' q2 q1
theorem vm_callJ {post : Int → MS → Prop} (h : Ok0 cc own ret R Γ) (hok : AdOk ad) (hm : MR σ) (hM : MCj y b nL2 ret2 l As σ post) (hy : y.cls = "CreditShelfModel") (hw : GoodIn lw_all (wsV own i y.cls y (ws_ y b nL2 ret2)))
    (hd : y.cls ≠ "java/lang/invoke/MethodHandle" ∧ y.cls ≠ "java/lang/invoke/VarHandle" ∧ (parseMethodDescriptor y.desc).map (fun d => d.parameters.length) = some As.length) (hl : l + 1 ≤ R.frames ∧ 8 + (nL2 + 11) + 60 * l ≤ R.locals) (hf : k ≤ R.cells ∧ n ≤ R.slots) (hst : (st.map fun v => v.category).sum ≤ 8) (d : decode cc pc = .ok (.invokevirtual i, 3)) (hn : pc + 3 = n') (hs0 : st0 = As.reverse ++ .ref (ad 50) :: st)
    (kk : ∀ z σ', post z σ' → MR σ' → V Γ k n (mH ad σ') n' L (.long (lI z) :: st)) : V Γ k n (mH ad σ) pc L st0 := by
  refine v_callV (ci := 2) h (hM ad hok hm) (fun _ _ e => e) (by rw [hy]; rfl) mH_obj hw hd hl hf hst d hn (kJ fun z hp' q => ?_) hs0
  rw [mrg_self]
  obtain ⟨σ', rfl, q1, q2⟩ := q
  exact kk z σ' q2 q1
theorem vm_callV {post : MS → Prop} (h : Ok0 cc own ret R Γ) (hok : AdOk ad) (hm : MR σ) (hM : MCv y b nL2 ret2 l As σ post) (hy : y.cls = "CreditShelfModel") (hw : GoodIn lw_all (wsV own i y.cls y (ws_ y b nL2 ret2)))
    (hd : y.cls ≠ "java/lang/invoke/MethodHandle" ∧ y.cls ≠ "java/lang/invoke/VarHandle" ∧ (parseMethodDescriptor y.desc).map (fun d => d.parameters.length) = some As.length) (hl : l + 1 ≤ R.frames ∧ 8 + (nL2 + 11) + 60 * l ≤ R.locals) (hf : k ≤ R.cells ∧ n ≤ R.slots) (hst : (st.map fun v => v.category).sum ≤ 8) (d : decode cc pc = .ok (.invokevirtual i, 3)) (hn : pc + 3 = n') (hs0 : st0 = As.reverse ++ .ref (ad 50) :: st)
    (kk : ∀ σ', post σ' → MR σ' → V Γ k n (mH ad σ') n' L st) : V Γ k n (mH ad σ) pc L st0 := by
  refine v_callV (ci := 2) h (hM ad hok hm) (fun _ _ e => e) (by rw [hy]; rfl) mH_obj hw hd hl hf hst d hn (kV fun hp' q => ?_) hs0
  rw [mrg_self]
  obtain ⟨σ', rfl, q1, q2⟩ := q
  exact kk σ' q2 q1
end VMC
theorem ret_mi {z : Int} {ad : Nat → Nat} {σ : MS} {post : Int → MS → Prop} (hm : MR σ) (h : post z σ) : PI ad post (some (.int (iI z))) (mH ad σ) := ⟨z, rfl, σ, rfl, hm, h⟩
theorem ret_mj {z : Int} {ad : Nat → Nat} {σ : MS} {post : Int → MS → Prop} (hm : MR σ) (h : post z σ) : PJ ad post (some (.long (lI z))) (mH ad σ) := ⟨z, rfl, σ, rfl, hm, h⟩
theorem ret_mv {ad : Nat → Nat} {σ : MS} {post : MS → Prop} (hm : MR σ) (h : post σ) : PV ad post none (mH ad σ) := ⟨rfl, σ, rfl, hm, h⟩
