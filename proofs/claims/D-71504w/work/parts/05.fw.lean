/-! FRAMEWORK 1: ints by their numbers, abstract heaps, the judgement V (a walk over an abstract heap), contracts Ct -/
set_option maxRecDepth 100000
def iI (z : Int) : Int32 := Int32.ofInt z
def lI (z : Int) : Int64 := Int64.ofInt z
theorem iI_ti {z : Int} (h : -2147483648 ≤ z ∧ z ≤ 2147483647) : (iI z).toInt = z := Int32.toInt_ofInt_of_le (by omega) (by omega)
theorem lI_ti {z : Int} (h : -9223372036854775808 ≤ z ∧ z ≤ 9223372036854775807) : (lI z).toInt = z := Int64.toInt_ofInt_of_le (by omega) (by omega)
theorem iI_add (a b : Int) : iI a + iI b = iI (a + b) := (Int32.ofInt_add a b).symm
theorem iI_sub (a b : Int) : iI a - iI b = iI (a - b) := (Int32.ofInt_sub a b).symm
theorem iI_mul (a b : Int) : iI a * iI b = iI (a * b) := (Int32.ofInt_mul a b).symm
theorem iI_neg (a : Int) : -iI a = iI (-a) := (Int32.ofInt_neg a).symm
theorem lI_add (a b : Int) : lI a + lI b = lI (a + b) := (Int64.ofInt_add a b).symm
theorem lI_sub (a b : Int) : lI a - lI b = lI (a - b) := (Int64.ofInt_sub a b).symm
theorem lI_mul (a b : Int) : lI a * lI b = lI (a * b) := (Int64.ofInt_mul a b).symm
theorem iI_of (x : Int32) : iI x.toInt = x := Int32.ofInt_toInt x
theorem lI_of (x : Int64) : lI x.toInt = x := Int64.ofInt_toInt x
theorem i32_r (x : Int32) : -2147483648 ≤ x.toInt ∧ x.toInt ≤ 2147483647 := by
  have h1 := x.toInt_lt
  have h2 := x.le_toInt
  omega
theorem iI_eq {a b : Int} (ha : -2147483648 ≤ a ∧ a ≤ 2147483647) (hb : -2147483648 ≤ b ∧ b ≤ 2147483647) : iI a = iI b ↔ a = b := by
  rw [← Int32.toInt_inj, iI_ti ha, iI_ti hb]
theorem iI_lt {a b : Int} (ha : -2147483648 ≤ a ∧ a ≤ 2147483647) (hb : -2147483648 ≤ b ∧ b ≤ 2147483647) : iI a < iI b ↔ a < b := by
  rw [Int32.lt_iff_toInt_lt, iI_ti ha, iI_ti hb]
theorem iI_le {a b : Int} (ha : -2147483648 ≤ a ∧ a ≤ 2147483647) (hb : -2147483648 ≤ b ∧ b ≤ 2147483647) : iI a ≤ iI b ↔ a ≤ b := by
  rw [Int32.le_iff_toInt_le, iI_ti ha, iI_ti hb]
theorem lI_eq {a b : Int} (ha : -9223372036854775808 ≤ a ∧ a ≤ 9223372036854775807) (hb : -9223372036854775808 ≤ b ∧ b ≤ 9223372036854775807) : lI a = lI b ↔ a = b := by
  rw [← Int64.toInt_inj, lI_ti ha, lI_ti hb]
theorem lI_lt {a b : Int} (ha : -9223372036854775808 ≤ a ∧ a ≤ 9223372036854775807) (hb : -9223372036854775808 ≤ b ∧ b ≤ 9223372036854775807) : lI a < lI b ↔ a < b := by
  rw [Int64.lt_iff_toInt_lt, lI_ti ha, lI_ti hb]
theorem iI_0 : iI 0 = 0 := by decide
theorem iI_l {z : Int} (h : -2147483648 ≤ z ∧ z ≤ 2147483647) : (iI z).toInt64 = lI z := by
  have h1 : Int32.minValue.toInt = -2147483648 := by decide
  have h2 : Int32.maxValue.toInt = 2147483647 := by decide
  exact Int32.toInt64_ofInt (by rw [h1]; exact h.1) (by rw [h2]; exact h.2)
theorem lI_i (z : Int) : (lI z).toInt32 = iI z := Int64.toInt32_ofInt
theorem iI_nI (n : Nat) : iI (n : Int) = nI n := rfl
theorem iI_clamp {z : Int} (h : 0 ≤ z ∧ z ≤ 2147483647) : (iI z).toNatClampNeg = z.toNat := by
  obtain ⟨n, rfl⟩ := Int.eq_ofNat_of_zero_le h.1
  have h2 : n < 2 ^ 31 := by omega
  show (iI (n : Int)).toNatClampNeg = (n : Int).toNat
  rw [iI_nI, nI_clamp h2, Int.toNat_natCast]
theorem iI_in {z : Int} {n : Nat} (h : 0 ≤ z ∧ z < n) (hz : z ≤ 2147483647) : vp_in (iI z) n := by
  rw [vp_in_iff, iI_ti (by omega)]
  exact h
theorem iI_div {a b : Int} (ha : 0 ≤ a ∧ a ≤ 2147483647) (hb : 0 < b ∧ b ≤ 2147483647) : iI a / iI b = iI (a / b) := by
  obtain ⟨m, rfl⟩ := Int.eq_ofNat_of_zero_le ha.1
  obtain ⟨n, rfl⟩ := Int.eq_ofNat_of_zero_le (Int.le_of_lt hb.1)
  show iI (m : Int) / iI (n : Int) = iI ((m : Int) / (n : Int))
  rw [iI_nI, iI_nI, pk_div (by omega) (by omega) (by omega), ← Int.natCast_ediv, iI_nI]
theorem iI_rem {a b : Int} (ha : 0 ≤ a ∧ a ≤ 2147483647) (hb : 0 < b ∧ b ≤ 2147483647) : iI a - iI a / iI b * iI b = iI (a % b) := by
  rw [iI_div ha hb, iI_mul, iI_sub, Int.emod_def, Int.mul_comm]
theorem lI_div {a b : Int} (ha : 0 ≤ a ∧ a ≤ 9223372036854775807) (hb : 0 < b ∧ b ≤ 9223372036854775807) : lI a / lI b = lI (a / b) := by
  obtain ⟨m, rfl⟩ := Int.eq_ofNat_of_zero_le ha.1
  obtain ⟨n, rfl⟩ := Int.eq_ofNat_of_zero_le (Int.le_of_lt hb.1)
  show lN m / lN n = lI ((m : Int) / (n : Int))
  rw [pk_lDiv (by omega) (by omega) (by omega), ← Int.natCast_ediv]
  rfl
theorem lI_rem {a b : Int} (ha : 0 ≤ a ∧ a ≤ 9223372036854775807) (hb : 0 < b ∧ b ≤ 9223372036854775807) : lI a - lI a / lI b * lI b = lI (a % b) := by
  rw [lI_div ha hb, lI_mul, lI_sub, Int.emod_def, Int.mul_comm]
/-! the classes, what a state must say of them -/
abbrev DD : Type := va_G × (Nat → ClassId) × Nat × Nat
abbrev CL : List vw_C := [(RX0, TX0, 20), (RX1, TX1, 10), (RX2, TX2, 50), (RX3, TX3, 6), (RX4, TX4, 7), (RX5, TX5, 4), (RX6, TX6, 4), (RX7, TX7, 4), (RX8, TX8, 4), (RX9, TX9, 4), (RJ2, TJ2, 3)]
abbrev TYS (t : Nat → ClassId) : List (ClassId × FieldType) := [(t 0, .int), (t 1, .byte), (t 2, .boolean), (t 3, .object "java/lang/Object")]
abbrev AH : Type := Nat → Option va_E
def tgE (D : DD) (e : va_E) : va_E := match e with
  | .inl x => .inl (D.2.1 x.1, x.2)
  | .inr o => .inr o
def HW (D : DD) (hp : AH) (H : Heap) : Prop := ∀ (a : Nat) (e : va_E), hp a = some e → va_at D.1 CL (a, tgE D e) H
theorem HW.lt {D : DD} {hp : AH} {H : Heap} (h : HW D hp H) {a : Nat} {e : va_E} (he : hp a = some e) : a < H.size := (h a e he).lt
theorem HW.P {D : DD} {hp : AH} {H : Heap} (h : HW D hp H) {a : Nat} {e : va_E} (he : hp a = some e) : va_P D.1 CL [(a, tgE D e)] H := by
  intro k q hk
  have hz : k < 1 := (List.getElem?_eq_some_iff.mp hk).1
  rw [show k = 0 by omega] at hk
  cases hk
  exact h a e he
def upH (hp : AH) (a : Nat) (e : va_E) : AH := fun q => if q = a then some e else hp q
theorem upH_s {hp : AH} {a : Nat} {e : va_E} : upH hp a e a = some e := if_pos rfl
theorem upH_n {hp : AH} {a q : Nat} {e : va_E} (h : q ≠ a) : upH hp a e q = hp q := if_neg h
theorem HW.up {D : DD} {hp : AH} {H H1 : Heap} {a : Nat} {e : va_E} (h : HW D hp H) (he : va_at D.1 CL (a, tgE D e) H1) (oq : ∀ q : Nat, q ≠ a → q < H.size → H1[q]? = H[q]?) : HW D (upH hp a e) H1 := by
  intro q e' hq
  by_cases c : q = a
  · subst c
    rw [upH_s] at hq
    cases hq
    exact he
  · rw [upH_n c] at hq
    exact (h q e' hq).kept (oq q c (h.lt hq))
def nk (w : Cond) : Bool := match w with
  | .fieldLinkNest _ _ _ _ _ _ => true
  | .methodLinkNest _ _ _ _ => true
  | .castable _ _ => true
  | .declares _ => true
  | _ => false
def NW (U : State) : Prop := ∀ w ∈ lw_tbl, nk w = true → va_Nw w U
theorem NW.warm {s U : State} (hW : s.WarmedH U.vm) (h : NW s) : NW U := by
  intro w hw hk
  cases w <;> first | (exact va_Nw.warmF hW (h _ hw hk)) | (exact va_Nw.warmM hW (h _ hw hk)) | (exact va_Nw.warmC hW (h _ hw hk)) | (exact va_Nw.warmD hW (h _ hw hk)) | (cases hk)
theorem NW.same {u U : State} (e : u.vm = U.vm) (h : NW u) : NW U := by
  intro w hw hk
  have q := h w hw hk
  cases w <;> first | (cases hk; done) | (exact va_Nw.same rfl e q)
def EE (D : DD) (A : Nat → Prop) (U : State) : Prop :=
  va_K D.1 CL (TYS D.2.1) U ∧ NW U ∧ va_AO "java/lang/Object" U ∧ va_Dc U ∧ va_Mi "[Ljava/lang/Object;" D.2.2.2 U ∧
  va_Z "java/util/ArrayList" "DEFAULTCAPACITY_EMPTY_ELEMENTDATA" "[Ljava/lang/Object;" (.ref D.2.2.1) A U U.heap ∧ va_T (.object "java/lang/Object") D.2.2.1 0 (fun _ => .null) A U U.heap ∧
  va_Zq "java/lang/Throwable" "UNASSIGNED_STACK" "[Ljava/lang/StackTraceElement;" A U U.heap ∧ va_Zq "java/lang/Throwable" "SUPPRESSED_SENTINEL" "Ljava/util/List;" A U U.heap
theorem EE.step {D : DD} {A B : Nat → Prop} {s U : State} {locs : List Loc} (hW : s.WarmedH U.vm) (hS : va_S A s.heap U.heap locs) (hAB : ∀ q, B q → A q) (h : EE D A s) : EE D B U := by
  obtain ⟨h1, h2, h3, h4, h5, h6, h7, h8, h9⟩ := h
  refine ⟨va_K.moved hW.alike h1, h2.warm hW, va_AO.moved hW.alike h3, va_Dc.moved hW.alike h4, va_Mi.moved hW.alike h5, ?_, ?_, ?_, ?_⟩
  · exact ((h6.moved hW.alike).kept hS.2.1).narrow hAB
  · exact ((h7.moved hW.alike).kept hS.2.1).narrow hAB
  · exact ((h8.moved hW.alike).kept hS.2.1).narrow hAB
  · exact ((h9.moved hW.alike).kept hS.2.1).narrow hAB
theorem EE.blind {D : DD} {A : Nat → Prop} {U : State} {g : JFrame} {mk : MethodId} {a : Array Value} (h : EE D A U) : EE D A (U.calling g mk a) := by
  obtain ⟨h1, h2, h3, h4, h5, h6, h7, h8, h9⟩ := h
  have hv : U.vm.Alike (U.calling g mk a).vm := Vm.Alike.refl U.vm
  exact ⟨va_K.moved hv h1, NW.same (u := U) (U := U.calling g mk a) rfl h2, va_AO.moved hv h3, va_Dc.moved hv h4, va_Mi.moved hv h5, h6.moved hv, h7.moved hv, h8.moved hv, h9.moved hv⟩
def AA (hp : AH) (sz : Nat) : Nat → Prop := fun q => hp q ≠ none ∨ sz ≤ q
/-! the judgement -/
abbrev GX : Type := Program × Launch × Env × Room × State × MethodId × Array Value × List Frame × Method × Code × DD × (Nat → Prop) × Nat × (State → Prop)
abbrev gP (Γ : GX) : Program := Γ.1
abbrev gL (Γ : GX) : Launch := Γ.2.1
abbrev gE (Γ : GX) : Env := Γ.2.2.1
abbrev gR (Γ : GX) : Room := Γ.2.2.2.1
abbrev gS (Γ : GX) : State := Γ.2.2.2.2.1
abbrev gM (Γ : GX) : MethodId := Γ.2.2.2.2.2.1
abbrev gArgs (Γ : GX) : Array Value := Γ.2.2.2.2.2.2.1
abbrev gB (Γ : GX) : List Frame := Γ.2.2.2.2.2.2.2.1
abbrev gMt (Γ : GX) : Method := Γ.2.2.2.2.2.2.2.2.1
abbrev gC (Γ : GX) : Code := Γ.2.2.2.2.2.2.2.2.2.1
abbrev gD (Γ : GX) : DD := Γ.2.2.2.2.2.2.2.2.2.2.1
abbrev gA (Γ : GX) : Nat → Prop := Γ.2.2.2.2.2.2.2.2.2.2.2.1
abbrev gN (Γ : GX) : Nat := Γ.2.2.2.2.2.2.2.2.2.2.2.2.1
abbrev gQ (Γ : GX) : State → Prop := Γ.2.2.2.2.2.2.2.2.2.2.2.2.2
def prs (L : List (Option Value)) : List (Nat × Value) := (List.range L.length).filterMap (fun j => (L[j]?.join).map (fun w => (j, w)))
theorem mem_prs {L : List (Option Value)} {j : Nat} {w : Value} : (j, w) ∈ prs L ↔ L[j]? = some (some w) := by
  unfold prs
  rw [List.mem_filterMap]
  constructor
  · rintro ⟨i, -, h⟩
    cases hL : L[i]? with
    | none => rw [hL] at h; simp at h
    | some o =>
      cases o with
      | none => rw [hL] at h; simp at h
      | some v =>
        rw [hL] at h
        simp at h
        obtain ⟨rfl, rfl⟩ := h
        exact hL
  · intro h
    exact ⟨j, List.mem_range.mpr (List.getElem?_eq_some_iff.mp h).1, by rw [h]; rfl⟩
def LH (ls : Array Slot) (nL : Nat) (L : List (Option Value)) : Prop := L.length = nL ∧ lv_has ls nL (prs L)
theorem LH.at {ls : Array Slot} {nL : Nat} {L : List (Option Value)} (h : LH ls nL L) {i : Nat} {v : Value} (hi : L[i]? = some (some v)) : ls[i]? = some (.val v) := h.2.2.2 (i, v) (mem_prs.mpr hi)
def c2 (o : Option Value) : Bool := match o with
  | some v => v.category == 2
  | none => false
theorem c2_rf (o : Option Nat) : c2 (some (va_rf o)) = false := by cases o <;> rfl
theorem c1_rf (o : Option Nat) : (va_rf o).category = 1 := by cases o <;> rfl
theorem LH.st1 {ls' : Array Slot} {nL : Nat} {L : List (Option Value)} {i : Nat} {v : Value} (hlen : L.length = nL) (hp : ∀ j w, j + 1 = i → L[j]? = some w → c2 w = false)
    (h : lv_has ls' nL ((i, v) :: (prs L).filter (fun q => !(q.1 == i) && !(q.1 + 1 == i && q.2.category == 2)))) : LH ls' nL (L.set i (some v)) := by
  refine ⟨by rw [List.length_set]; exact hlen, h.1, h.2.1, fun q hq => h.2.2 q ?_⟩
  obtain ⟨j, w⟩ := q
  have hq := mem_prs.mp hq
  by_cases c : j = i
  · subst c
    rw [List.getElem?_set] at hq
    split at hq
    · split at hq
      · cases hq; exact List.mem_cons_self
      · cases hq
    · exact absurd rfl (by assumption)
  · rw [List.getElem?_set_ne (Ne.symm c)] at hq
    refine List.mem_cons_of_mem _ (List.mem_filter.mpr ⟨mem_prs.mpr hq, ?_⟩)
    have h1 : (j == i) = false := by simpa using c
    simp only [h1, Bool.not_false, Bool.true_and]
    by_cases c3 : j + 1 = i
    · have := hp j _ c3 hq
      simp only [c2] at this
      simp [this]
    · simp [c3]
theorem LH.st2 {ls' : Array Slot} {nL : Nat} {L : List (Option Value)} {i : Nat} {v : Value} (hlen : L.length = nL) (hp : ∀ j w, j + 1 = i → L[j]? = some w → c2 w = false)
    (h : lv_has ls' nL ((i, v) :: (prs L).filter (fun q => !(q.1 == i) && (!(q.1 == i + 1) && !(q.1 + 1 == i && q.2.category == 2))))) : LH ls' nL ((L.set i (some v)).set (i + 1) none) := by
  refine ⟨by rw [List.length_set, List.length_set]; exact hlen, h.1, h.2.1, fun q hq => h.2.2 q ?_⟩
  obtain ⟨j, w⟩ := q
  have hq := mem_prs.mp hq
  have c4 : ¬ j = i + 1 := by
    intro e
    subst e
    rw [List.getElem?_set] at hq
    split at hq
    · split at hq <;> cases hq
    · exact absurd rfl (by assumption)
  rw [List.getElem?_set_ne (Ne.symm c4)] at hq
  by_cases c : j = i
  · subst c
    rw [List.getElem?_set] at hq
    split at hq
    · split at hq
      · cases hq; exact List.mem_cons_self
      · cases hq
    · exact absurd rfl (by assumption)
  · rw [List.getElem?_set_ne (Ne.symm c)] at hq
    refine List.mem_cons_of_mem _ (List.mem_filter.mpr ⟨mem_prs.mpr hq, ?_⟩)
    have h1 : (j == i) = false := by simpa using c
    have h2 : (j == i + 1) = false := by simpa using c4
    simp only [h1, h2, Bool.not_false, Bool.true_and]
    by_cases c3 : j + 1 = i
    · have := hp j _ c3 hq
      simp only [c2] at this
      simp [this]
    · simp [c3]
def V (Γ : GX) (k n : Nat) (hp : AH) (pc : Nat) (L : List (Option Value)) (st : List Value) : Prop :=
  ∀ (H : Heap) (locs : List Loc) (ls : Array Slot), HW (gD Γ) hp H → (∀ a, hp a ≠ none → gA Γ a) → va_S (gA Γ) (gS Γ).heap H locs → LH ls (gN Γ) L →
    W (gP Γ) (gL Γ) (gE Γ) (gR Γ) (gS Γ) (gM Γ) (gArgs Γ) (gB Γ) (gMt Γ) (gC Γ) H locs k n (gQ Γ) (F0 (gM Γ) pc ls st)
def Ok0 (cc : ByteArray) (own : String) (ret : Option FieldType) (R : Room) (Γ : GX) : Prop :=
  (gP Γ).tables.exec = Jvm.exec ∧ (gC Γ).code = cc ∧ (gC Γ).maxLocals = gN Γ ∧ (gMt Γ).sig.returnType = ret ∧ (gS Γ).vm.findClass own = some (gM Γ).cls ∧
  (∀ w ∈ lw_all, w.before (gArgs Γ) (gS Γ) = true) ∧ EE (gD Γ) (gA Γ) (gS Γ) ∧ (∀ q, (gS Γ).heap.size ≤ q → gA Γ q) ∧ (gMt Γ).locks = false ∧ gR Γ = R
def QG (D : DD) (post : Option Value → AH → Prop) (A : Nat → Prop) : Array Value → State → Outcome → State → Prop := fun _ st oc t =>
  (∃ (r : Option Value) (hp : AH), oc = .returned r ∧ post r hp ∧ HW D hp t.heap ∧ ∀ a, hp a ≠ none → A a) ∧ va_F A st t
def Rt (post : Option Value → AH → Prop) (mc ms : Nat) (Γ : GX) : Prop := gQ Γ = MQ (gB Γ) (QG (gD Γ) post (gA Γ)) (gArgs Γ) (gS Γ) mc ms (gA Γ)
def Ct (y : MethodName) (b : ByteArray) (nL : Nat) (ret : Option FieldType) (rm : Room) (As : List Value) (hp : AH) (post : Option Value → AH → Prop) : Prop :=
  ∀ (l : Launch) (D : DD) (sz : Nat), Met l y (ws_ y b nL ret) rm (va_Pc As (fun U => U.heap.size = sz ∧ HW D hp U.heap ∧ EE D (AA hp sz) U)) (QG D post (AA hp sz)) rm.cells rm.slots (AA hp sz)
/-! a method's entry -/
def LHl (sl : List Slot) (L : List (Option Value)) : Prop := sl.length = L.length ∧ ∀ (i : Nat) (v : Value), L[i]? = some (some v) → sl[i]? = some (.val v)
def EL (As : List Value) (nL : Nat) (L : List (Option Value)) : Prop := ∃ k, (lg_sl As).length + k = nL ∧ LHl (lg_sl As ++ List.replicate k Slot.unset) L
theorem EL.nil (n : Nat) : EL [] n (List.replicate n none) := by
  refine ⟨n, by simp [lg_sl], by simp [lg_sl], fun i v h => ?_⟩
  rw [List.getElem?_replicate] at h
  split at h <;> cases h
theorem EL.c1 {v : Value} {vs : List Value} {n : Nat} {L : List (Option Value)} (hc : v.category = 1) (h : EL vs n L) : EL (v :: vs) (n + 1) (some v :: L) := by
  obtain ⟨k, h1, h2, h3⟩ := h
  have e : lg_sl (v :: vs) = .val v :: lg_sl vs := by simp [lg_sl, hc]
  refine ⟨k, by rw [e]; simp; omega, by rw [e]; simp at h2 ⊢; omega, fun i w hi => ?_⟩
  rw [e]
  cases i with
  | zero => simp at hi ⊢; exact hi
  | succ i => exact h3 i w hi
theorem EL.c2 {v : Value} {vs : List Value} {n : Nat} {L : List (Option Value)} (hc : v.category = 2) (h : EL vs n L) : EL (v :: vs) (n + 2) (some v :: none :: L) := by
  obtain ⟨k, h1, h2, h3⟩ := h
  have e : lg_sl (v :: vs) = .val v :: .second :: lg_sl vs := by simp [lg_sl, hc]
  refine ⟨k, by rw [e]; simp; omega, by rw [e]; simp at h2 ⊢; omega, fun i w hi => ?_⟩
  rw [e]
  match i with
  | 0 => simp at hi ⊢; exact hi
  | 1 => simp at hi
  | i + 2 => exact h3 i w hi
theorem EL.lh {As : List Value} {nL : Nat} {L : List (Option Value)} (h : EL As nL L) : LH ((lg_sl As ++ List.replicate (nL - (lg_sl As).length) Slot.unset).toArray) nL L := by
  obtain ⟨k, h1, h2, h3⟩ := h
  have hk : nL - (lg_sl As).length = k := by omega
  have q := lv_entry As (n := nL) (by omega)
  refine ⟨?_, q.1, q.2.1, fun x hx => ?_⟩
  · rw [← h2]; simp; omega
  · obtain ⟨j, w⟩ := x
    have := h3 j w (mem_prs.mp hx)
    rw [hk]
    simpa using this
theorem Ct.of {y : MethodName} {b : ByteArray} {nL : Nat} {ret : Option FieldType} {rm : Room} {As : List Value} {hp : AH} {post : Option Value → AH → Prop} {L : List (Option Value)} (hy : plainName y.cls = true) (hL : EL As nL L)
    (body : ∀ Γ : GX, Ok0 b y.cls ret rm Γ → Rt post rm.cells rm.slots Γ → (gMt Γ).name = y.name → V Γ 0 0 hp 0 L []) : Ct y b nL ret rm As hp post := by
  intro l D sz
  refine Met.ofW (cc := b) (maxL := nL) (ret := ret) hy rfl ?_
  intro p e s m args below meth c s₁ B hml hv
  obtain ⟨rfl, hsz, hP, hE⟩ := hv
  subst hsz
  have hts := atoms_spec (ws := ws_ y b nL ret) B.pre
  have hts : ∀ w ∈ lw_all, w.before As.toArray s = true := fun w h => hts w (List.mem_cons_of_mem _ h)
  rw [lg_entry_eq]
  exact body (p, l, e, rm, s, m, As.toArray, below, meth, c, D, AA hp s.heap.size, nL, MQ below (QG D post (AA hp s.heap.size)) As.toArray s rm.cells rm.slots (AA hp s.heap.size))
    ⟨B.exec, B.bytes, hml, B.returns, findClass_of_methodNamed B.named, hts, hE, fun q h => Or.inr h, B.notSynchronized, rfl⟩ rfl (name_of_methodNamed B.named B.method).1 s.heap [] _ hP (fun a h => Or.inl h) va_S.rf hL.lh
section VR
variable {Γ : GX} {k n : Nat} {hp : AH} {pc n' : Nat} {L : List (Option Value)} {st : List Value} {cc : ByteArray} {own : String} {ret : Option FieldType} {R : Room}
theorem V.widen {k2 n2 : Nat} (h1 : k ≤ k2) (h2 : n ≤ n2) (kk : V Γ k2 n2 hp pc L st) : V Γ k n hp pc L st := fun H locs ls a1 a2 a3 a4 => W.widen h1 h2 (kk H locs ls a1 a2 a3 a4)
/-- a smaller world -/
theorem V.less {hp2 : AH} (hs : ∀ a e, hp2 a = some e → hp a = some e) (kk : V Γ k n hp2 pc L st) : V Γ k n hp pc L st := fun H locs ls a1 a2 a3 a4 => by
  refine kk H locs ls (fun a e he => a1 a e (hs a e he)) (fun a h => a2 a ?_) a3 a4
  cases hq : hp2 a with
  | none => exact absurd hq h
  | some e => rw [hs a e hq]; exact fun z => by cases z
theorem V.cast {L2 : List (Option Value)} {st2 : List Value} (hL : L = L2) (hs : st = st2) (kk : V Γ k n hp pc L2 st2) : V Γ k n hp pc L st := by rw [hL, hs]; exact kk
theorem V.fresh (kk : ∀ q : Nat, (∀ a, hp a ≠ none → a < q) → V Γ k n hp pc L st) : V Γ k n hp pc L st := fun H locs ls a1 a2 a3 a4 => by
  refine kk H.size (fun a h => ?_) H locs ls a1 a2 a3 a4
  cases hq : hp a with
  | none => exact absurd hq h
  | some e => exact a1.lt hq
theorem v_iconst (h : Ok0 cc own ret R Γ) {z : Int} (d : decode cc pc = .ok (.iconst z, 1)) (hn : pc + 1 = n')  (kk : V Γ k n hp n' L (.int (iI z) :: st)) : V Γ k n hp pc L (st) := fun H locs ls a1 a2 a3 a4 => by
  subst hn
  have q := kk H locs ls a1 a2 a3 a4
  exact lv_iconst h.1 h.2.1 d rfl q
theorem v_bipush (h : Ok0 cc own ret R Γ) {z : Int} (d : decode cc pc = .ok (.bipush z, 2)) (hn : pc + 2 = n') (hv : (Int8.ofInt z).toInt32 = iI z) (kk : V Γ k n hp n' L (.int (iI z) :: st)) : V Γ k n hp pc L (st) := fun H locs ls a1 a2 a3 a4 => by
  subst hn
  have q := kk H locs ls a1 a2 a3 a4
  exact lv_bipush h.1 h.2.1 d hv q
theorem v_sipush (h : Ok0 cc own ret R Γ) {z : Int} (d : decode cc pc = .ok (.sipush z, 3)) (hn : pc + 3 = n') (hv : (Int16.ofInt z).toInt32 = iI z) (kk : V Γ k n hp n' L (.int (iI z) :: st)) : V Γ k n hp pc L (st) := fun H locs ls a1 a2 a3 a4 => by
  subst hn
  have q := kk H locs ls a1 a2 a3 a4
  exact lv_sipush h.1 h.2.1 d hv q
theorem v_lconst (h : Ok0 cc own ret R Γ) {z : Fin 2} {y : Int} (d : decode cc pc = .ok (.lconst z, 1)) (hn : pc + 1 = n') (hv : ((z : Nat) : Int) = y) (kk : V Γ k n hp n' L (.long (lI y) :: st)) : V Γ k n hp pc L (st) := fun H locs ls a1 a2 a3 a4 => by
  subst hn
  have q := kk H locs ls a1 a2 a3 a4
  exact lv_lconst h.1 h.2.1 d (by rw [← hv]; rfl) q
theorem v_ldc (h : Ok0 cc own ret R Γ) {i : Nat} {v : Int32} {z : Int} (d : decode cc pc = .ok (.ldc i, 2)) (hn : pc + 2 = n') (hw : Cond.constant own i v ∈ lw_all) (hv : v = iI z) (kk : V Γ k n hp n' L (.int (iI z) :: st)) : V Γ k n hp pc L (st) := fun H locs ls a1 a2 a3 a4 => by
  subst hn
  have q := kk H locs ls a1 a2 a3 a4
  rw [← hv] at q; exact lv_ldc h.1 h.2.1 h.2.2.2.2.1 (h.2.2.2.2.2.1 _ hw) d q
theorem v_ldcw (h : Ok0 cc own ret R Γ) {i : Nat} {v : Int32} {z : Int} (d : decode cc pc = .ok (.ldc_w i, 3)) (hn : pc + 3 = n') (hw : Cond.constant own i v ∈ lw_all) (hv : v = iI z) (kk : V Γ k n hp n' L (.int (iI z) :: st)) : V Γ k n hp pc L (st) := fun H locs ls a1 a2 a3 a4 => by
  subst hn
  have q := kk H locs ls a1 a2 a3 a4
  rw [← hv] at q; exact lv_ldcw h.1 h.2.1 h.2.2.2.2.1 (h.2.2.2.2.2.1 _ hw) d q
theorem v_ldc2 (h : Ok0 cc own ret R Γ) {i : Nat} {v : Int64} {z : Int} (d : decode cc pc = .ok (.ldc2_w i, 3)) (hn : pc + 3 = n') (hw : Cond.constantLong own i v ∈ lw_all) (hv : v = lI z) (kk : V Γ k n hp n' L (.long (lI z) :: st)) : V Γ k n hp pc L (st) := fun H locs ls a1 a2 a3 a4 => by
  subst hn
  have q := kk H locs ls a1 a2 a3 a4
  rw [← hv] at q; exact lv_ldc2 h.1 h.2.1 h.2.2.2.2.1 (h.2.2.2.2.2.1 _ hw) d q
theorem v_null (h : Ok0 cc own ret R Γ)  (d : decode cc pc = .ok (.aconst_null, 1)) (hn : pc + 1 = n')  (kk : V Γ k n hp n' L (.null :: st)) : V Γ k n hp pc L (st) := fun H locs ls a1 a2 a3 a4 => by
  subst hn
  have q := kk H locs ls a1 a2 a3 a4
  exact lv_null h.1 h.2.1 d q
theorem v_iload (h : Ok0 cc own ret R Γ) {i : Nat} {x : Int32} (d : decode cc pc = .ok (.iload i, 2)) (hn : pc + 2 = n') (hi : L[i]? = some (some (.int x))) (kk : V Γ k n hp n' L (.int x :: st)) : V Γ k n hp pc L (st) := fun H locs ls a1 a2 a3 a4 => by
  subst hn
  have q := kk H locs ls a1 a2 a3 a4
  exact lv_iload h.1 h.2.1 d (a4.at hi) q
theorem v_iload_n (h : Ok0 cc own ret R Γ) {i : Fin 4} {x : Int32} (d : decode cc pc = .ok (.iload_n i, 1)) (hn : pc + 1 = n') (hi : L[(i : Nat)]? = some (some (.int x))) (kk : V Γ k n hp n' L (.int x :: st)) : V Γ k n hp pc L (st) := fun H locs ls a1 a2 a3 a4 => by
  subst hn
  have q := kk H locs ls a1 a2 a3 a4
  exact lv_iload_n h.1 h.2.1 d rfl (a4.at hi) q
theorem v_lload (h : Ok0 cc own ret R Γ) {i : Nat} {x : Int64} (d : decode cc pc = .ok (.lload i, 2)) (hn : pc + 2 = n') (hi : L[i]? = some (some (.long x))) (kk : V Γ k n hp n' L (.long x :: st)) : V Γ k n hp pc L (st) := fun H locs ls a1 a2 a3 a4 => by
  subst hn
  have q := kk H locs ls a1 a2 a3 a4
  exact lv_lload h.1 h.2.1 d (a4.at hi) q
theorem v_lload_n (h : Ok0 cc own ret R Γ) {i : Fin 4} {x : Int64} (d : decode cc pc = .ok (.lload_n i, 1)) (hn : pc + 1 = n') (hi : L[(i : Nat)]? = some (some (.long x))) (kk : V Γ k n hp n' L (.long x :: st)) : V Γ k n hp pc L (st) := fun H locs ls a1 a2 a3 a4 => by
  subst hn
  have q := kk H locs ls a1 a2 a3 a4
  exact lv_lload_n h.1 h.2.1 d rfl (a4.at hi) q
theorem v_aload (h : Ok0 cc own ret R Γ) {i : Nat} {x : Nat} (d : decode cc pc = .ok (.aload i, 2)) (hn : pc + 2 = n') (hi : L[i]? = some (some (.ref x))) (kk : V Γ k n hp n' L (.ref x :: st)) : V Γ k n hp pc L (st) := fun H locs ls a1 a2 a3 a4 => by
  subst hn
  have q := kk H locs ls a1 a2 a3 a4
  exact lv_aload h.1 h.2.1 d (a4.at hi) q
theorem v_aload_n (h : Ok0 cc own ret R Γ) {i : Fin 4} {x : Nat} (d : decode cc pc = .ok (.aload_n i, 1)) (hn : pc + 1 = n') (hi : L[(i : Nat)]? = some (some (.ref x))) (kk : V Γ k n hp n' L (.ref x :: st)) : V Γ k n hp pc L (st) := fun H locs ls a1 a2 a3 a4 => by
  subst hn
  have q := kk H locs ls a1 a2 a3 a4
  exact lv_aload_n h.1 h.2.1 d rfl (a4.at hi) q
theorem v_aloadQ (h : Ok0 cc own ret R Γ) {i : Nat} {o : Option Nat} (d : decode cc pc = .ok (.aload i, 2)) (hn : pc + 2 = n') (hi : L[i]? = some (some (va_rf o))) (kk : V Γ k n hp n' L (va_rf o :: st)) : V Γ k n hp pc L (st) := fun H locs ls a1 a2 a3 a4 => by
  subst hn
  have q := kk H locs ls a1 a2 a3 a4
  cases o with
  | none => exact lv_aloadN h.1 h.2.1 d (a4.at hi) q
  | some x => exact lv_aload h.1 h.2.1 d (a4.at hi) q
theorem v_aload_nQ (h : Ok0 cc own ret R Γ) {i : Fin 4} {o : Option Nat} (d : decode cc pc = .ok (.aload_n i, 1)) (hn : pc + 1 = n') (hi : L[(i : Nat)]? = some (some (va_rf o))) (kk : V Γ k n hp n' L (va_rf o :: st)) : V Γ k n hp pc L (st) := fun H locs ls a1 a2 a3 a4 => by
  subst hn
  have q := kk H locs ls a1 a2 a3 a4
  cases o with
  | none => exact lv_aload_nN h.1 h.2.1 d rfl (a4.at hi) q
  | some x => exact lv_aload_n h.1 h.2.1 d rfl (a4.at hi) q
theorem v_aload_nN (h : Ok0 cc own ret R Γ) {i : Fin 4} (d : decode cc pc = .ok (.aload_n i, 1)) (hn : pc + 1 = n') (hi : L[(i : Nat)]? = some (some .null)) (kk : V Γ k n hp n' L (.null :: st)) : V Γ k n hp pc L (st) := fun H locs ls a1 a2 a3 a4 => by
  subst hn
  have q := kk H locs ls a1 a2 a3 a4
  exact lv_aload_nN h.1 h.2.1 d rfl (a4.at hi) q
theorem v_istore0 (h : Ok0 cc own ret R Γ) {x : Int32} {a0 : Option Value} {r : List (Option Value)} (d : decode cc pc = .ok (.istore_n 0, 1)) (hn : pc + 1 = n')  (kk : V Γ k n hp n' (some (.int x) :: r) st) : V Γ k n hp pc (a0 :: r) (.int x :: st) := fun H locs ls a1_ a2_ a3_ a4_ => by
  subst hn
  refine lv_istore_n (i := 0) h.1 h.2.1 d rfl a4_.2 (by rw [← a4_.1]; simp) rfl (fun ls' hl => ?_)
  exact kk H locs ls' a1_ a2_ a3_ (LH.st1 (L := a0 :: r) a4_.1 (fun j w e1 e2 => by omega) hl)
theorem v_astore0 (h : Ok0 cc own ret R Γ) {x : Nat} {a0 : Option Value} {r : List (Option Value)} (d : decode cc pc = .ok (.astore_n 0, 1)) (hn : pc + 1 = n')  (kk : V Γ k n hp n' (some (.ref x) :: r) st) : V Γ k n hp pc (a0 :: r) (.ref x :: st) := fun H locs ls a1_ a2_ a3_ a4_ => by
  subst hn
  refine lv_astore_n (i := 0) h.1 h.2.1 d rfl a4_.2 (by rw [← a4_.1]; simp) rfl (fun ls' hl => ?_)
  exact kk H locs ls' a1_ a2_ a3_ (LH.st1 (L := a0 :: r) a4_.1 (fun j w e1 e2 => by omega) hl)
theorem v_astore0N (h : Ok0 cc own ret R Γ)  {a0 : Option Value} {r : List (Option Value)} (d : decode cc pc = .ok (.astore_n 0, 1)) (hn : pc + 1 = n')  (kk : V Γ k n hp n' (some (.null) :: r) st) : V Γ k n hp pc (a0 :: r) (.null :: st) := fun H locs ls a1_ a2_ a3_ a4_ => by
  subst hn
  refine lv_astore_nN (i := 0) h.1 h.2.1 d rfl a4_.2 (by rw [← a4_.1]; simp) rfl (fun ls' hl => ?_)
  exact kk H locs ls' a1_ a2_ a3_ (LH.st1 (L := a0 :: r) a4_.1 (fun j w e1 e2 => by omega) hl)
theorem v_astore0Q (h : Ok0 cc own ret R Γ) {x : Option Nat} {a0 : Option Value} {r : List (Option Value)} (d : decode cc pc = .ok (.astore_n 0, 1)) (hn : pc + 1 = n')  (kk : V Γ k n hp n' (some (va_rf x) :: r) st) : V Γ k n hp pc (a0 :: r) (va_rf x :: st) := by
  cases x with
  | none => exact v_astore0N h d hn kk
  | some x => exact v_astore0 h d hn kk
theorem v_lstore0 (h : Ok0 cc own ret R Γ) {x : Int64} {a0 a1 : Option Value} {r : List (Option Value)} (d : decode cc pc = .ok (.lstore_n 0, 1)) (hn : pc + 1 = n')  (kk : V Γ k n hp n' (some (.long x) :: none :: r) st) : V Γ k n hp pc (a0 :: a1 :: r) (.long x :: st) := fun H locs ls a1_ a2_ a3_ a4_ => by
  subst hn
  refine lv_lstore_n (i := 0) h.1 h.2.1 d rfl a4_.2 (by rw [← a4_.1]; simp) rfl (fun ls' hl => ?_)
  exact kk H locs ls' a1_ a2_ a3_ (LH.st2 (L := a0 :: a1 :: r) a4_.1 (fun j w e1 e2 => by omega) hl)
theorem v_iinc0 (h : Ok0 cc own ret R Γ) {x z : Int} {r : List (Option Value)} (d : decode cc pc = .ok (.iinc 0 z, 3)) (hn : pc + 3 = n')  (kk : V Γ k n hp n' (some (.int (iI (x + z))) :: r) st) : V Γ k n hp pc (some (.int (iI x)) :: r) st := fun H locs ls a1_ a2_ a3_ a4_ => by
  subst hn
  obtain ⟨j, hj⟩ := List.getElem?_of_mem ((mem_prs (L := some (.int (iI x)) :: r) (j := 0) (w := .int (iI x))).mpr rfl)
  refine lv_iinc (i := 0) (v := iI (x + z)) h.1 h.2.1 d a4_.2 hj (iI_add x z) (by rw [← a4_.1]; simp) rfl (fun ls' hl => ?_)
  exact kk H locs ls' a1_ a2_ a3_ (LH.st1 (L := some (.int (iI x)) :: r) a4_.1 (fun j w e1 e2 => by omega) hl)
theorem v_istore1 (h : Ok0 cc own ret R Γ) {x : Int32} {a0 a1 : Option Value} {r : List (Option Value)} (d : decode cc pc = .ok (.istore_n 1, 1)) (hn : pc + 1 = n') (hc : c2 a0 = false) (kk : V Γ k n hp n' (a0 :: some (.int x) :: r) st) : V Γ k n hp pc (a0 :: a1 :: r) (.int x :: st) := fun H locs ls a1_ a2_ a3_ a4_ => by
  subst hn
  refine lv_istore_n (i := 1) h.1 h.2.1 d rfl a4_.2 (by rw [← a4_.1]; simp) rfl (fun ls' hl => ?_)
  exact kk H locs ls' a1_ a2_ a3_ (LH.st1 (L := a0 :: a1 :: r) a4_.1 (fun j w e1 e2 => by
      obtain rfl : j = 0 := by omega
      cases e2
      exact hc) hl)
theorem v_astore1 (h : Ok0 cc own ret R Γ) {x : Nat} {a0 a1 : Option Value} {r : List (Option Value)} (d : decode cc pc = .ok (.astore_n 1, 1)) (hn : pc + 1 = n') (hc : c2 a0 = false) (kk : V Γ k n hp n' (a0 :: some (.ref x) :: r) st) : V Γ k n hp pc (a0 :: a1 :: r) (.ref x :: st) := fun H locs ls a1_ a2_ a3_ a4_ => by
  subst hn
  refine lv_astore_n (i := 1) h.1 h.2.1 d rfl a4_.2 (by rw [← a4_.1]; simp) rfl (fun ls' hl => ?_)
  exact kk H locs ls' a1_ a2_ a3_ (LH.st1 (L := a0 :: a1 :: r) a4_.1 (fun j w e1 e2 => by
      obtain rfl : j = 0 := by omega
      cases e2
      exact hc) hl)
theorem v_astore1N (h : Ok0 cc own ret R Γ)  {a0 a1 : Option Value} {r : List (Option Value)} (d : decode cc pc = .ok (.astore_n 1, 1)) (hn : pc + 1 = n') (hc : c2 a0 = false) (kk : V Γ k n hp n' (a0 :: some (.null) :: r) st) : V Γ k n hp pc (a0 :: a1 :: r) (.null :: st) := fun H locs ls a1_ a2_ a3_ a4_ => by
  subst hn
  refine lv_astore_nN (i := 1) h.1 h.2.1 d rfl a4_.2 (by rw [← a4_.1]; simp) rfl (fun ls' hl => ?_)
  exact kk H locs ls' a1_ a2_ a3_ (LH.st1 (L := a0 :: a1 :: r) a4_.1 (fun j w e1 e2 => by
      obtain rfl : j = 0 := by omega
      cases e2
      exact hc) hl)
theorem v_astore1Q (h : Ok0 cc own ret R Γ) {x : Option Nat} {a0 a1 : Option Value} {r : List (Option Value)} (d : decode cc pc = .ok (.astore_n 1, 1)) (hn : pc + 1 = n') (hc : c2 a0 = false) (kk : V Γ k n hp n' (a0 :: some (va_rf x) :: r) st) : V Γ k n hp pc (a0 :: a1 :: r) (va_rf x :: st) := by
  cases x with
  | none => exact v_astore1N h d hn hc kk
  | some x => exact v_astore1 h d hn hc kk
theorem v_lstore1 (h : Ok0 cc own ret R Γ) {x : Int64} {a0 a1 a2 : Option Value} {r : List (Option Value)} (d : decode cc pc = .ok (.lstore_n 1, 1)) (hn : pc + 1 = n') (hc : c2 a0 = false) (kk : V Γ k n hp n' (a0 :: some (.long x) :: none :: r) st) : V Γ k n hp pc (a0 :: a1 :: a2 :: r) (.long x :: st) := fun H locs ls a1_ a2_ a3_ a4_ => by
  subst hn
  refine lv_lstore_n (i := 1) h.1 h.2.1 d rfl a4_.2 (by rw [← a4_.1]; simp) rfl (fun ls' hl => ?_)
  exact kk H locs ls' a1_ a2_ a3_ (LH.st2 (L := a0 :: a1 :: a2 :: r) a4_.1 (fun j w e1 e2 => by
      obtain rfl : j = 0 := by omega
      cases e2
      exact hc) hl)
theorem v_iinc1 (h : Ok0 cc own ret R Γ) {x z : Int} {a0 : Option Value} {r : List (Option Value)} (d : decode cc pc = .ok (.iinc 1 z, 3)) (hn : pc + 3 = n') (hc : c2 a0 = false) (kk : V Γ k n hp n' (a0 :: some (.int (iI (x + z))) :: r) st) : V Γ k n hp pc (a0 :: some (.int (iI x)) :: r) st := fun H locs ls a1_ a2_ a3_ a4_ => by
  subst hn
  obtain ⟨j, hj⟩ := List.getElem?_of_mem ((mem_prs (L := a0 :: some (.int (iI x)) :: r) (j := 1) (w := .int (iI x))).mpr rfl)
  refine lv_iinc (i := 1) (v := iI (x + z)) h.1 h.2.1 d a4_.2 hj (iI_add x z) (by rw [← a4_.1]; simp) rfl (fun ls' hl => ?_)
  exact kk H locs ls' a1_ a2_ a3_ (LH.st1 (L := a0 :: some (.int (iI x)) :: r) a4_.1 (fun j w e1 e2 => by
      obtain rfl : j = 0 := by omega
      cases e2
      exact hc) hl)
theorem v_istore2 (h : Ok0 cc own ret R Γ) {x : Int32} {a0 a1 a2 : Option Value} {r : List (Option Value)} (d : decode cc pc = .ok (.istore_n 2, 1)) (hn : pc + 1 = n') (hc : c2 a1 = false) (kk : V Γ k n hp n' (a0 :: a1 :: some (.int x) :: r) st) : V Γ k n hp pc (a0 :: a1 :: a2 :: r) (.int x :: st) := fun H locs ls a1_ a2_ a3_ a4_ => by
  subst hn
  refine lv_istore_n (i := 2) h.1 h.2.1 d rfl a4_.2 (by rw [← a4_.1]; simp) rfl (fun ls' hl => ?_)
  exact kk H locs ls' a1_ a2_ a3_ (LH.st1 (L := a0 :: a1 :: a2 :: r) a4_.1 (fun j w e1 e2 => by
      obtain rfl : j = 1 := by omega
      cases e2
      exact hc) hl)
theorem v_astore2 (h : Ok0 cc own ret R Γ) {x : Nat} {a0 a1 a2 : Option Value} {r : List (Option Value)} (d : decode cc pc = .ok (.astore_n 2, 1)) (hn : pc + 1 = n') (hc : c2 a1 = false) (kk : V Γ k n hp n' (a0 :: a1 :: some (.ref x) :: r) st) : V Γ k n hp pc (a0 :: a1 :: a2 :: r) (.ref x :: st) := fun H locs ls a1_ a2_ a3_ a4_ => by
  subst hn
  refine lv_astore_n (i := 2) h.1 h.2.1 d rfl a4_.2 (by rw [← a4_.1]; simp) rfl (fun ls' hl => ?_)
  exact kk H locs ls' a1_ a2_ a3_ (LH.st1 (L := a0 :: a1 :: a2 :: r) a4_.1 (fun j w e1 e2 => by
      obtain rfl : j = 1 := by omega
      cases e2
      exact hc) hl)
theorem v_astore2N (h : Ok0 cc own ret R Γ)  {a0 a1 a2 : Option Value} {r : List (Option Value)} (d : decode cc pc = .ok (.astore_n 2, 1)) (hn : pc + 1 = n') (hc : c2 a1 = false) (kk : V Γ k n hp n' (a0 :: a1 :: some (.null) :: r) st) : V Γ k n hp pc (a0 :: a1 :: a2 :: r) (.null :: st) := fun H locs ls a1_ a2_ a3_ a4_ => by
  subst hn
  refine lv_astore_nN (i := 2) h.1 h.2.1 d rfl a4_.2 (by rw [← a4_.1]; simp) rfl (fun ls' hl => ?_)
  exact kk H locs ls' a1_ a2_ a3_ (LH.st1 (L := a0 :: a1 :: a2 :: r) a4_.1 (fun j w e1 e2 => by
      obtain rfl : j = 1 := by omega
      cases e2
      exact hc) hl)
theorem v_astore2Q (h : Ok0 cc own ret R Γ) {x : Option Nat} {a0 a1 a2 : Option Value} {r : List (Option Value)} (d : decode cc pc = .ok (.astore_n 2, 1)) (hn : pc + 1 = n') (hc : c2 a1 = false) (kk : V Γ k n hp n' (a0 :: a1 :: some (va_rf x) :: r) st) : V Γ k n hp pc (a0 :: a1 :: a2 :: r) (va_rf x :: st) := by
  cases x with
  | none => exact v_astore2N h d hn hc kk
  | some x => exact v_astore2 h d hn hc kk
theorem v_lstore2 (h : Ok0 cc own ret R Γ) {x : Int64} {a0 a1 a2 a3 : Option Value} {r : List (Option Value)} (d : decode cc pc = .ok (.lstore_n 2, 1)) (hn : pc + 1 = n') (hc : c2 a1 = false) (kk : V Γ k n hp n' (a0 :: a1 :: some (.long x) :: none :: r) st) : V Γ k n hp pc (a0 :: a1 :: a2 :: a3 :: r) (.long x :: st) := fun H locs ls a1_ a2_ a3_ a4_ => by
  subst hn
  refine lv_lstore_n (i := 2) h.1 h.2.1 d rfl a4_.2 (by rw [← a4_.1]; simp) rfl (fun ls' hl => ?_)
  exact kk H locs ls' a1_ a2_ a3_ (LH.st2 (L := a0 :: a1 :: a2 :: a3 :: r) a4_.1 (fun j w e1 e2 => by
      obtain rfl : j = 1 := by omega
      cases e2
      exact hc) hl)
theorem v_iinc2 (h : Ok0 cc own ret R Γ) {x z : Int} {a0 a1 : Option Value} {r : List (Option Value)} (d : decode cc pc = .ok (.iinc 2 z, 3)) (hn : pc + 3 = n') (hc : c2 a1 = false) (kk : V Γ k n hp n' (a0 :: a1 :: some (.int (iI (x + z))) :: r) st) : V Γ k n hp pc (a0 :: a1 :: some (.int (iI x)) :: r) st := fun H locs ls a1_ a2_ a3_ a4_ => by
  subst hn
  obtain ⟨j, hj⟩ := List.getElem?_of_mem ((mem_prs (L := a0 :: a1 :: some (.int (iI x)) :: r) (j := 2) (w := .int (iI x))).mpr rfl)
  refine lv_iinc (i := 2) (v := iI (x + z)) h.1 h.2.1 d a4_.2 hj (iI_add x z) (by rw [← a4_.1]; simp) rfl (fun ls' hl => ?_)
  exact kk H locs ls' a1_ a2_ a3_ (LH.st1 (L := a0 :: a1 :: some (.int (iI x)) :: r) a4_.1 (fun j w e1 e2 => by
      obtain rfl : j = 1 := by omega
      cases e2
      exact hc) hl)
theorem v_istore3 (h : Ok0 cc own ret R Γ) {x : Int32} {a0 a1 a2 a3 : Option Value} {r : List (Option Value)} (d : decode cc pc = .ok (.istore_n 3, 1)) (hn : pc + 1 = n') (hc : c2 a2 = false) (kk : V Γ k n hp n' (a0 :: a1 :: a2 :: some (.int x) :: r) st) : V Γ k n hp pc (a0 :: a1 :: a2 :: a3 :: r) (.int x :: st) := fun H locs ls a1_ a2_ a3_ a4_ => by
  subst hn
  refine lv_istore_n (i := 3) h.1 h.2.1 d rfl a4_.2 (by rw [← a4_.1]; simp) rfl (fun ls' hl => ?_)
  exact kk H locs ls' a1_ a2_ a3_ (LH.st1 (L := a0 :: a1 :: a2 :: a3 :: r) a4_.1 (fun j w e1 e2 => by
      obtain rfl : j = 2 := by omega
      cases e2
      exact hc) hl)
theorem v_astore3 (h : Ok0 cc own ret R Γ) {x : Nat} {a0 a1 a2 a3 : Option Value} {r : List (Option Value)} (d : decode cc pc = .ok (.astore_n 3, 1)) (hn : pc + 1 = n') (hc : c2 a2 = false) (kk : V Γ k n hp n' (a0 :: a1 :: a2 :: some (.ref x) :: r) st) : V Γ k n hp pc (a0 :: a1 :: a2 :: a3 :: r) (.ref x :: st) := fun H locs ls a1_ a2_ a3_ a4_ => by
  subst hn
  refine lv_astore_n (i := 3) h.1 h.2.1 d rfl a4_.2 (by rw [← a4_.1]; simp) rfl (fun ls' hl => ?_)
  exact kk H locs ls' a1_ a2_ a3_ (LH.st1 (L := a0 :: a1 :: a2 :: a3 :: r) a4_.1 (fun j w e1 e2 => by
      obtain rfl : j = 2 := by omega
      cases e2
      exact hc) hl)
theorem v_astore3N (h : Ok0 cc own ret R Γ)  {a0 a1 a2 a3 : Option Value} {r : List (Option Value)} (d : decode cc pc = .ok (.astore_n 3, 1)) (hn : pc + 1 = n') (hc : c2 a2 = false) (kk : V Γ k n hp n' (a0 :: a1 :: a2 :: some (.null) :: r) st) : V Γ k n hp pc (a0 :: a1 :: a2 :: a3 :: r) (.null :: st) := fun H locs ls a1_ a2_ a3_ a4_ => by
  subst hn
  refine lv_astore_nN (i := 3) h.1 h.2.1 d rfl a4_.2 (by rw [← a4_.1]; simp) rfl (fun ls' hl => ?_)
  exact kk H locs ls' a1_ a2_ a3_ (LH.st1 (L := a0 :: a1 :: a2 :: a3 :: r) a4_.1 (fun j w e1 e2 => by
      obtain rfl : j = 2 := by omega
      cases e2
      exact hc) hl)
theorem v_astore3Q (h : Ok0 cc own ret R Γ) {x : Option Nat} {a0 a1 a2 a3 : Option Value} {r : List (Option Value)} (d : decode cc pc = .ok (.astore_n 3, 1)) (hn : pc + 1 = n') (hc : c2 a2 = false) (kk : V Γ k n hp n' (a0 :: a1 :: a2 :: some (va_rf x) :: r) st) : V Γ k n hp pc (a0 :: a1 :: a2 :: a3 :: r) (va_rf x :: st) := by
  cases x with
  | none => exact v_astore3N h d hn hc kk
  | some x => exact v_astore3 h d hn hc kk
theorem v_lstore3 (h : Ok0 cc own ret R Γ) {x : Int64} {a0 a1 a2 a3 a4 : Option Value} {r : List (Option Value)} (d : decode cc pc = .ok (.lstore_n 3, 1)) (hn : pc + 1 = n') (hc : c2 a2 = false) (kk : V Γ k n hp n' (a0 :: a1 :: a2 :: some (.long x) :: none :: r) st) : V Γ k n hp pc (a0 :: a1 :: a2 :: a3 :: a4 :: r) (.long x :: st) := fun H locs ls a1_ a2_ a3_ a4_ => by
  subst hn
  refine lv_lstore_n (i := 3) h.1 h.2.1 d rfl a4_.2 (by rw [← a4_.1]; simp) rfl (fun ls' hl => ?_)
  exact kk H locs ls' a1_ a2_ a3_ (LH.st2 (L := a0 :: a1 :: a2 :: a3 :: a4 :: r) a4_.1 (fun j w e1 e2 => by
      obtain rfl : j = 2 := by omega
      cases e2
      exact hc) hl)
theorem v_iinc3 (h : Ok0 cc own ret R Γ) {x z : Int} {a0 a1 a2 : Option Value} {r : List (Option Value)} (d : decode cc pc = .ok (.iinc 3 z, 3)) (hn : pc + 3 = n') (hc : c2 a2 = false) (kk : V Γ k n hp n' (a0 :: a1 :: a2 :: some (.int (iI (x + z))) :: r) st) : V Γ k n hp pc (a0 :: a1 :: a2 :: some (.int (iI x)) :: r) st := fun H locs ls a1_ a2_ a3_ a4_ => by
  subst hn
  obtain ⟨j, hj⟩ := List.getElem?_of_mem ((mem_prs (L := a0 :: a1 :: a2 :: some (.int (iI x)) :: r) (j := 3) (w := .int (iI x))).mpr rfl)
  refine lv_iinc (i := 3) (v := iI (x + z)) h.1 h.2.1 d a4_.2 hj (iI_add x z) (by rw [← a4_.1]; simp) rfl (fun ls' hl => ?_)
  exact kk H locs ls' a1_ a2_ a3_ (LH.st1 (L := a0 :: a1 :: a2 :: some (.int (iI x)) :: r) a4_.1 (fun j w e1 e2 => by
      obtain rfl : j = 2 := by omega
      cases e2
      exact hc) hl)
theorem v_istore4 (h : Ok0 cc own ret R Γ) {x : Int32} {a0 a1 a2 a3 a4 : Option Value} {r : List (Option Value)} (d : decode cc pc = .ok (.istore 4, 2)) (hn : pc + 2 = n') (hc : c2 a3 = false) (kk : V Γ k n hp n' (a0 :: a1 :: a2 :: a3 :: some (.int x) :: r) st) : V Γ k n hp pc (a0 :: a1 :: a2 :: a3 :: a4 :: r) (.int x :: st) := fun H locs ls a1_ a2_ a3_ a4_ => by
  subst hn
  refine lv_istore (i := 4) h.1 h.2.1 d a4_.2 (by rw [← a4_.1]; simp) rfl (fun ls' hl => ?_)
  exact kk H locs ls' a1_ a2_ a3_ (LH.st1 (L := a0 :: a1 :: a2 :: a3 :: a4 :: r) a4_.1 (fun j w e1 e2 => by
      obtain rfl : j = 3 := by omega
      cases e2
      exact hc) hl)
theorem v_astore4 (h : Ok0 cc own ret R Γ) {x : Nat} {a0 a1 a2 a3 a4 : Option Value} {r : List (Option Value)} (d : decode cc pc = .ok (.astore 4, 2)) (hn : pc + 2 = n') (hc : c2 a3 = false) (kk : V Γ k n hp n' (a0 :: a1 :: a2 :: a3 :: some (.ref x) :: r) st) : V Γ k n hp pc (a0 :: a1 :: a2 :: a3 :: a4 :: r) (.ref x :: st) := fun H locs ls a1_ a2_ a3_ a4_ => by
  subst hn
  refine lv_astore (i := 4) h.1 h.2.1 d a4_.2 (by rw [← a4_.1]; simp) rfl (fun ls' hl => ?_)
  exact kk H locs ls' a1_ a2_ a3_ (LH.st1 (L := a0 :: a1 :: a2 :: a3 :: a4 :: r) a4_.1 (fun j w e1 e2 => by
      obtain rfl : j = 3 := by omega
      cases e2
      exact hc) hl)
theorem v_astore4N (h : Ok0 cc own ret R Γ)  {a0 a1 a2 a3 a4 : Option Value} {r : List (Option Value)} (d : decode cc pc = .ok (.astore 4, 2)) (hn : pc + 2 = n') (hc : c2 a3 = false) (kk : V Γ k n hp n' (a0 :: a1 :: a2 :: a3 :: some (.null) :: r) st) : V Γ k n hp pc (a0 :: a1 :: a2 :: a3 :: a4 :: r) (.null :: st) := fun H locs ls a1_ a2_ a3_ a4_ => by
  subst hn
  refine lv_astoreN (i := 4) h.1 h.2.1 d a4_.2 (by rw [← a4_.1]; simp) rfl (fun ls' hl => ?_)
  exact kk H locs ls' a1_ a2_ a3_ (LH.st1 (L := a0 :: a1 :: a2 :: a3 :: a4 :: r) a4_.1 (fun j w e1 e2 => by
      obtain rfl : j = 3 := by omega
      cases e2
      exact hc) hl)
theorem v_astore4Q (h : Ok0 cc own ret R Γ) {x : Option Nat} {a0 a1 a2 a3 a4 : Option Value} {r : List (Option Value)} (d : decode cc pc = .ok (.astore 4, 2)) (hn : pc + 2 = n') (hc : c2 a3 = false) (kk : V Γ k n hp n' (a0 :: a1 :: a2 :: a3 :: some (va_rf x) :: r) st) : V Γ k n hp pc (a0 :: a1 :: a2 :: a3 :: a4 :: r) (va_rf x :: st) := by
  cases x with
  | none => exact v_astore4N h d hn hc kk
  | some x => exact v_astore4 h d hn hc kk
theorem v_lstore4 (h : Ok0 cc own ret R Γ) {x : Int64} {a0 a1 a2 a3 a4 a5 : Option Value} {r : List (Option Value)} (d : decode cc pc = .ok (.lstore 4, 2)) (hn : pc + 2 = n') (hc : c2 a3 = false) (kk : V Γ k n hp n' (a0 :: a1 :: a2 :: a3 :: some (.long x) :: none :: r) st) : V Γ k n hp pc (a0 :: a1 :: a2 :: a3 :: a4 :: a5 :: r) (.long x :: st) := fun H locs ls a1_ a2_ a3_ a4_ => by
  subst hn
  refine lv_lstore (i := 4) h.1 h.2.1 d a4_.2 (by rw [← a4_.1]; simp) rfl (fun ls' hl => ?_)
  exact kk H locs ls' a1_ a2_ a3_ (LH.st2 (L := a0 :: a1 :: a2 :: a3 :: a4 :: a5 :: r) a4_.1 (fun j w e1 e2 => by
      obtain rfl : j = 3 := by omega
      cases e2
      exact hc) hl)
theorem v_iinc4 (h : Ok0 cc own ret R Γ) {x z : Int} {a0 a1 a2 a3 : Option Value} {r : List (Option Value)} (d : decode cc pc = .ok (.iinc 4 z, 3)) (hn : pc + 3 = n') (hc : c2 a3 = false) (kk : V Γ k n hp n' (a0 :: a1 :: a2 :: a3 :: some (.int (iI (x + z))) :: r) st) : V Γ k n hp pc (a0 :: a1 :: a2 :: a3 :: some (.int (iI x)) :: r) st := fun H locs ls a1_ a2_ a3_ a4_ => by
  subst hn
  obtain ⟨j, hj⟩ := List.getElem?_of_mem ((mem_prs (L := a0 :: a1 :: a2 :: a3 :: some (.int (iI x)) :: r) (j := 4) (w := .int (iI x))).mpr rfl)
  refine lv_iinc (i := 4) (v := iI (x + z)) h.1 h.2.1 d a4_.2 hj (iI_add x z) (by rw [← a4_.1]; simp) rfl (fun ls' hl => ?_)
  exact kk H locs ls' a1_ a2_ a3_ (LH.st1 (L := a0 :: a1 :: a2 :: a3 :: some (.int (iI x)) :: r) a4_.1 (fun j w e1 e2 => by
      obtain rfl : j = 3 := by omega
      cases e2
      exact hc) hl)
theorem v_istore5 (h : Ok0 cc own ret R Γ) {x : Int32} {a0 a1 a2 a3 a4 a5 : Option Value} {r : List (Option Value)} (d : decode cc pc = .ok (.istore 5, 2)) (hn : pc + 2 = n') (hc : c2 a4 = false) (kk : V Γ k n hp n' (a0 :: a1 :: a2 :: a3 :: a4 :: some (.int x) :: r) st) : V Γ k n hp pc (a0 :: a1 :: a2 :: a3 :: a4 :: a5 :: r) (.int x :: st) := fun H locs ls a1_ a2_ a3_ a4_ => by
  subst hn
  refine lv_istore (i := 5) h.1 h.2.1 d a4_.2 (by rw [← a4_.1]; simp) rfl (fun ls' hl => ?_)
  exact kk H locs ls' a1_ a2_ a3_ (LH.st1 (L := a0 :: a1 :: a2 :: a3 :: a4 :: a5 :: r) a4_.1 (fun j w e1 e2 => by
      obtain rfl : j = 4 := by omega
      cases e2
      exact hc) hl)
theorem v_astore5 (h : Ok0 cc own ret R Γ) {x : Nat} {a0 a1 a2 a3 a4 a5 : Option Value} {r : List (Option Value)} (d : decode cc pc = .ok (.astore 5, 2)) (hn : pc + 2 = n') (hc : c2 a4 = false) (kk : V Γ k n hp n' (a0 :: a1 :: a2 :: a3 :: a4 :: some (.ref x) :: r) st) : V Γ k n hp pc (a0 :: a1 :: a2 :: a3 :: a4 :: a5 :: r) (.ref x :: st) := fun H locs ls a1_ a2_ a3_ a4_ => by
  subst hn
  refine lv_astore (i := 5) h.1 h.2.1 d a4_.2 (by rw [← a4_.1]; simp) rfl (fun ls' hl => ?_)
  exact kk H locs ls' a1_ a2_ a3_ (LH.st1 (L := a0 :: a1 :: a2 :: a3 :: a4 :: a5 :: r) a4_.1 (fun j w e1 e2 => by
      obtain rfl : j = 4 := by omega
      cases e2
      exact hc) hl)
theorem v_astore5N (h : Ok0 cc own ret R Γ)  {a0 a1 a2 a3 a4 a5 : Option Value} {r : List (Option Value)} (d : decode cc pc = .ok (.astore 5, 2)) (hn : pc + 2 = n') (hc : c2 a4 = false) (kk : V Γ k n hp n' (a0 :: a1 :: a2 :: a3 :: a4 :: some (.null) :: r) st) : V Γ k n hp pc (a0 :: a1 :: a2 :: a3 :: a4 :: a5 :: r) (.null :: st) := fun H locs ls a1_ a2_ a3_ a4_ => by
  subst hn
  refine lv_astoreN (i := 5) h.1 h.2.1 d a4_.2 (by rw [← a4_.1]; simp) rfl (fun ls' hl => ?_)
  exact kk H locs ls' a1_ a2_ a3_ (LH.st1 (L := a0 :: a1 :: a2 :: a3 :: a4 :: a5 :: r) a4_.1 (fun j w e1 e2 => by
      obtain rfl : j = 4 := by omega
      cases e2
      exact hc) hl)
theorem v_astore5Q (h : Ok0 cc own ret R Γ) {x : Option Nat} {a0 a1 a2 a3 a4 a5 : Option Value} {r : List (Option Value)} (d : decode cc pc = .ok (.astore 5, 2)) (hn : pc + 2 = n') (hc : c2 a4 = false) (kk : V Γ k n hp n' (a0 :: a1 :: a2 :: a3 :: a4 :: some (va_rf x) :: r) st) : V Γ k n hp pc (a0 :: a1 :: a2 :: a3 :: a4 :: a5 :: r) (va_rf x :: st) := by
  cases x with
  | none => exact v_astore5N h d hn hc kk
  | some x => exact v_astore5 h d hn hc kk
theorem v_lstore5 (h : Ok0 cc own ret R Γ) {x : Int64} {a0 a1 a2 a3 a4 a5 a6 : Option Value} {r : List (Option Value)} (d : decode cc pc = .ok (.lstore 5, 2)) (hn : pc + 2 = n') (hc : c2 a4 = false) (kk : V Γ k n hp n' (a0 :: a1 :: a2 :: a3 :: a4 :: some (.long x) :: none :: r) st) : V Γ k n hp pc (a0 :: a1 :: a2 :: a3 :: a4 :: a5 :: a6 :: r) (.long x :: st) := fun H locs ls a1_ a2_ a3_ a4_ => by
  subst hn
  refine lv_lstore (i := 5) h.1 h.2.1 d a4_.2 (by rw [← a4_.1]; simp) rfl (fun ls' hl => ?_)
  exact kk H locs ls' a1_ a2_ a3_ (LH.st2 (L := a0 :: a1 :: a2 :: a3 :: a4 :: a5 :: a6 :: r) a4_.1 (fun j w e1 e2 => by
      obtain rfl : j = 4 := by omega
      cases e2
      exact hc) hl)
theorem v_iinc5 (h : Ok0 cc own ret R Γ) {x z : Int} {a0 a1 a2 a3 a4 : Option Value} {r : List (Option Value)} (d : decode cc pc = .ok (.iinc 5 z, 3)) (hn : pc + 3 = n') (hc : c2 a4 = false) (kk : V Γ k n hp n' (a0 :: a1 :: a2 :: a3 :: a4 :: some (.int (iI (x + z))) :: r) st) : V Γ k n hp pc (a0 :: a1 :: a2 :: a3 :: a4 :: some (.int (iI x)) :: r) st := fun H locs ls a1_ a2_ a3_ a4_ => by
  subst hn
  obtain ⟨j, hj⟩ := List.getElem?_of_mem ((mem_prs (L := a0 :: a1 :: a2 :: a3 :: a4 :: some (.int (iI x)) :: r) (j := 5) (w := .int (iI x))).mpr rfl)
  refine lv_iinc (i := 5) (v := iI (x + z)) h.1 h.2.1 d a4_.2 hj (iI_add x z) (by rw [← a4_.1]; simp) rfl (fun ls' hl => ?_)
  exact kk H locs ls' a1_ a2_ a3_ (LH.st1 (L := a0 :: a1 :: a2 :: a3 :: a4 :: some (.int (iI x)) :: r) a4_.1 (fun j w e1 e2 => by
      obtain rfl : j = 4 := by omega
      cases e2
      exact hc) hl)
theorem v_istore6 (h : Ok0 cc own ret R Γ) {x : Int32} {a0 a1 a2 a3 a4 a5 a6 : Option Value} {r : List (Option Value)} (d : decode cc pc = .ok (.istore 6, 2)) (hn : pc + 2 = n') (hc : c2 a5 = false) (kk : V Γ k n hp n' (a0 :: a1 :: a2 :: a3 :: a4 :: a5 :: some (.int x) :: r) st) : V Γ k n hp pc (a0 :: a1 :: a2 :: a3 :: a4 :: a5 :: a6 :: r) (.int x :: st) := fun H locs ls a1_ a2_ a3_ a4_ => by
  subst hn
  refine lv_istore (i := 6) h.1 h.2.1 d a4_.2 (by rw [← a4_.1]; simp) rfl (fun ls' hl => ?_)
  exact kk H locs ls' a1_ a2_ a3_ (LH.st1 (L := a0 :: a1 :: a2 :: a3 :: a4 :: a5 :: a6 :: r) a4_.1 (fun j w e1 e2 => by
      obtain rfl : j = 5 := by omega
      cases e2
      exact hc) hl)
theorem v_astore6 (h : Ok0 cc own ret R Γ) {x : Nat} {a0 a1 a2 a3 a4 a5 a6 : Option Value} {r : List (Option Value)} (d : decode cc pc = .ok (.astore 6, 2)) (hn : pc + 2 = n') (hc : c2 a5 = false) (kk : V Γ k n hp n' (a0 :: a1 :: a2 :: a3 :: a4 :: a5 :: some (.ref x) :: r) st) : V Γ k n hp pc (a0 :: a1 :: a2 :: a3 :: a4 :: a5 :: a6 :: r) (.ref x :: st) := fun H locs ls a1_ a2_ a3_ a4_ => by
  subst hn
  refine lv_astore (i := 6) h.1 h.2.1 d a4_.2 (by rw [← a4_.1]; simp) rfl (fun ls' hl => ?_)
  exact kk H locs ls' a1_ a2_ a3_ (LH.st1 (L := a0 :: a1 :: a2 :: a3 :: a4 :: a5 :: a6 :: r) a4_.1 (fun j w e1 e2 => by
      obtain rfl : j = 5 := by omega
      cases e2
      exact hc) hl)
theorem v_astore6N (h : Ok0 cc own ret R Γ)  {a0 a1 a2 a3 a4 a5 a6 : Option Value} {r : List (Option Value)} (d : decode cc pc = .ok (.astore 6, 2)) (hn : pc + 2 = n') (hc : c2 a5 = false) (kk : V Γ k n hp n' (a0 :: a1 :: a2 :: a3 :: a4 :: a5 :: some (.null) :: r) st) : V Γ k n hp pc (a0 :: a1 :: a2 :: a3 :: a4 :: a5 :: a6 :: r) (.null :: st) := fun H locs ls a1_ a2_ a3_ a4_ => by
  subst hn
  refine lv_astoreN (i := 6) h.1 h.2.1 d a4_.2 (by rw [← a4_.1]; simp) rfl (fun ls' hl => ?_)
  exact kk H locs ls' a1_ a2_ a3_ (LH.st1 (L := a0 :: a1 :: a2 :: a3 :: a4 :: a5 :: a6 :: r) a4_.1 (fun j w e1 e2 => by
      obtain rfl : j = 5 := by omega
      cases e2
      exact hc) hl)
theorem v_astore6Q (h : Ok0 cc own ret R Γ) {x : Option Nat} {a0 a1 a2 a3 a4 a5 a6 : Option Value} {r : List (Option Value)} (d : decode cc pc = .ok (.astore 6, 2)) (hn : pc + 2 = n') (hc : c2 a5 = false) (kk : V Γ k n hp n' (a0 :: a1 :: a2 :: a3 :: a4 :: a5 :: some (va_rf x) :: r) st) : V Γ k n hp pc (a0 :: a1 :: a2 :: a3 :: a4 :: a5 :: a6 :: r) (va_rf x :: st) := by
  cases x with
  | none => exact v_astore6N h d hn hc kk
  | some x => exact v_astore6 h d hn hc kk
theorem v_lstore6 (h : Ok0 cc own ret R Γ) {x : Int64} {a0 a1 a2 a3 a4 a5 a6 a7 : Option Value} {r : List (Option Value)} (d : decode cc pc = .ok (.lstore 6, 2)) (hn : pc + 2 = n') (hc : c2 a5 = false) (kk : V Γ k n hp n' (a0 :: a1 :: a2 :: a3 :: a4 :: a5 :: some (.long x) :: none :: r) st) : V Γ k n hp pc (a0 :: a1 :: a2 :: a3 :: a4 :: a5 :: a6 :: a7 :: r) (.long x :: st) := fun H locs ls a1_ a2_ a3_ a4_ => by
  subst hn
  refine lv_lstore (i := 6) h.1 h.2.1 d a4_.2 (by rw [← a4_.1]; simp) rfl (fun ls' hl => ?_)
  exact kk H locs ls' a1_ a2_ a3_ (LH.st2 (L := a0 :: a1 :: a2 :: a3 :: a4 :: a5 :: a6 :: a7 :: r) a4_.1 (fun j w e1 e2 => by
      obtain rfl : j = 5 := by omega
      cases e2
      exact hc) hl)
theorem v_iinc6 (h : Ok0 cc own ret R Γ) {x z : Int} {a0 a1 a2 a3 a4 a5 : Option Value} {r : List (Option Value)} (d : decode cc pc = .ok (.iinc 6 z, 3)) (hn : pc + 3 = n') (hc : c2 a5 = false) (kk : V Γ k n hp n' (a0 :: a1 :: a2 :: a3 :: a4 :: a5 :: some (.int (iI (x + z))) :: r) st) : V Γ k n hp pc (a0 :: a1 :: a2 :: a3 :: a4 :: a5 :: some (.int (iI x)) :: r) st := fun H locs ls a1_ a2_ a3_ a4_ => by
  subst hn
  obtain ⟨j, hj⟩ := List.getElem?_of_mem ((mem_prs (L := a0 :: a1 :: a2 :: a3 :: a4 :: a5 :: some (.int (iI x)) :: r) (j := 6) (w := .int (iI x))).mpr rfl)
  refine lv_iinc (i := 6) (v := iI (x + z)) h.1 h.2.1 d a4_.2 hj (iI_add x z) (by rw [← a4_.1]; simp) rfl (fun ls' hl => ?_)
  exact kk H locs ls' a1_ a2_ a3_ (LH.st1 (L := a0 :: a1 :: a2 :: a3 :: a4 :: a5 :: some (.int (iI x)) :: r) a4_.1 (fun j w e1 e2 => by
      obtain rfl : j = 5 := by omega
      cases e2
      exact hc) hl)
theorem v_istore7 (h : Ok0 cc own ret R Γ) {x : Int32} {a0 a1 a2 a3 a4 a5 a6 a7 : Option Value} {r : List (Option Value)} (d : decode cc pc = .ok (.istore 7, 2)) (hn : pc + 2 = n') (hc : c2 a6 = false) (kk : V Γ k n hp n' (a0 :: a1 :: a2 :: a3 :: a4 :: a5 :: a6 :: some (.int x) :: r) st) : V Γ k n hp pc (a0 :: a1 :: a2 :: a3 :: a4 :: a5 :: a6 :: a7 :: r) (.int x :: st) := fun H locs ls a1_ a2_ a3_ a4_ => by
  subst hn
  refine lv_istore (i := 7) h.1 h.2.1 d a4_.2 (by rw [← a4_.1]; simp) rfl (fun ls' hl => ?_)
  exact kk H locs ls' a1_ a2_ a3_ (LH.st1 (L := a0 :: a1 :: a2 :: a3 :: a4 :: a5 :: a6 :: a7 :: r) a4_.1 (fun j w e1 e2 => by
      obtain rfl : j = 6 := by omega
      cases e2
      exact hc) hl)
theorem v_astore7 (h : Ok0 cc own ret R Γ) {x : Nat} {a0 a1 a2 a3 a4 a5 a6 a7 : Option Value} {r : List (Option Value)} (d : decode cc pc = .ok (.astore 7, 2)) (hn : pc + 2 = n') (hc : c2 a6 = false) (kk : V Γ k n hp n' (a0 :: a1 :: a2 :: a3 :: a4 :: a5 :: a6 :: some (.ref x) :: r) st) : V Γ k n hp pc (a0 :: a1 :: a2 :: a3 :: a4 :: a5 :: a6 :: a7 :: r) (.ref x :: st) := fun H locs ls a1_ a2_ a3_ a4_ => by
  subst hn
  refine lv_astore (i := 7) h.1 h.2.1 d a4_.2 (by rw [← a4_.1]; simp) rfl (fun ls' hl => ?_)
  exact kk H locs ls' a1_ a2_ a3_ (LH.st1 (L := a0 :: a1 :: a2 :: a3 :: a4 :: a5 :: a6 :: a7 :: r) a4_.1 (fun j w e1 e2 => by
      obtain rfl : j = 6 := by omega
      cases e2
      exact hc) hl)
theorem v_astore7N (h : Ok0 cc own ret R Γ)  {a0 a1 a2 a3 a4 a5 a6 a7 : Option Value} {r : List (Option Value)} (d : decode cc pc = .ok (.astore 7, 2)) (hn : pc + 2 = n') (hc : c2 a6 = false) (kk : V Γ k n hp n' (a0 :: a1 :: a2 :: a3 :: a4 :: a5 :: a6 :: some (.null) :: r) st) : V Γ k n hp pc (a0 :: a1 :: a2 :: a3 :: a4 :: a5 :: a6 :: a7 :: r) (.null :: st) := fun H locs ls a1_ a2_ a3_ a4_ => by
  subst hn
  refine lv_astoreN (i := 7) h.1 h.2.1 d a4_.2 (by rw [← a4_.1]; simp) rfl (fun ls' hl => ?_)
  exact kk H locs ls' a1_ a2_ a3_ (LH.st1 (L := a0 :: a1 :: a2 :: a3 :: a4 :: a5 :: a6 :: a7 :: r) a4_.1 (fun j w e1 e2 => by
      obtain rfl : j = 6 := by omega
      cases e2
      exact hc) hl)
theorem v_astore7Q (h : Ok0 cc own ret R Γ) {x : Option Nat} {a0 a1 a2 a3 a4 a5 a6 a7 : Option Value} {r : List (Option Value)} (d : decode cc pc = .ok (.astore 7, 2)) (hn : pc + 2 = n') (hc : c2 a6 = false) (kk : V Γ k n hp n' (a0 :: a1 :: a2 :: a3 :: a4 :: a5 :: a6 :: some (va_rf x) :: r) st) : V Γ k n hp pc (a0 :: a1 :: a2 :: a3 :: a4 :: a5 :: a6 :: a7 :: r) (va_rf x :: st) := by
  cases x with
  | none => exact v_astore7N h d hn hc kk
  | some x => exact v_astore7 h d hn hc kk
theorem v_lstore7 (h : Ok0 cc own ret R Γ) {x : Int64} {a0 a1 a2 a3 a4 a5 a6 a7 a8 : Option Value} {r : List (Option Value)} (d : decode cc pc = .ok (.lstore 7, 2)) (hn : pc + 2 = n') (hc : c2 a6 = false) (kk : V Γ k n hp n' (a0 :: a1 :: a2 :: a3 :: a4 :: a5 :: a6 :: some (.long x) :: none :: r) st) : V Γ k n hp pc (a0 :: a1 :: a2 :: a3 :: a4 :: a5 :: a6 :: a7 :: a8 :: r) (.long x :: st) := fun H locs ls a1_ a2_ a3_ a4_ => by
  subst hn
  refine lv_lstore (i := 7) h.1 h.2.1 d a4_.2 (by rw [← a4_.1]; simp) rfl (fun ls' hl => ?_)
  exact kk H locs ls' a1_ a2_ a3_ (LH.st2 (L := a0 :: a1 :: a2 :: a3 :: a4 :: a5 :: a6 :: a7 :: a8 :: r) a4_.1 (fun j w e1 e2 => by
      obtain rfl : j = 6 := by omega
      cases e2
      exact hc) hl)
theorem v_iinc7 (h : Ok0 cc own ret R Γ) {x z : Int} {a0 a1 a2 a3 a4 a5 a6 : Option Value} {r : List (Option Value)} (d : decode cc pc = .ok (.iinc 7 z, 3)) (hn : pc + 3 = n') (hc : c2 a6 = false) (kk : V Γ k n hp n' (a0 :: a1 :: a2 :: a3 :: a4 :: a5 :: a6 :: some (.int (iI (x + z))) :: r) st) : V Γ k n hp pc (a0 :: a1 :: a2 :: a3 :: a4 :: a5 :: a6 :: some (.int (iI x)) :: r) st := fun H locs ls a1_ a2_ a3_ a4_ => by
  subst hn
  obtain ⟨j, hj⟩ := List.getElem?_of_mem ((mem_prs (L := a0 :: a1 :: a2 :: a3 :: a4 :: a5 :: a6 :: some (.int (iI x)) :: r) (j := 7) (w := .int (iI x))).mpr rfl)
  refine lv_iinc (i := 7) (v := iI (x + z)) h.1 h.2.1 d a4_.2 hj (iI_add x z) (by rw [← a4_.1]; simp) rfl (fun ls' hl => ?_)
  exact kk H locs ls' a1_ a2_ a3_ (LH.st1 (L := a0 :: a1 :: a2 :: a3 :: a4 :: a5 :: a6 :: some (.int (iI x)) :: r) a4_.1 (fun j w e1 e2 => by
      obtain rfl : j = 6 := by omega
      cases e2
      exact hc) hl)
theorem v_istore8 (h : Ok0 cc own ret R Γ) {x : Int32} {a0 a1 a2 a3 a4 a5 a6 a7 a8 : Option Value} {r : List (Option Value)} (d : decode cc pc = .ok (.istore 8, 2)) (hn : pc + 2 = n') (hc : c2 a7 = false) (kk : V Γ k n hp n' (a0 :: a1 :: a2 :: a3 :: a4 :: a5 :: a6 :: a7 :: some (.int x) :: r) st) : V Γ k n hp pc (a0 :: a1 :: a2 :: a3 :: a4 :: a5 :: a6 :: a7 :: a8 :: r) (.int x :: st) := fun H locs ls a1_ a2_ a3_ a4_ => by
  subst hn
  refine lv_istore (i := 8) h.1 h.2.1 d a4_.2 (by rw [← a4_.1]; simp) rfl (fun ls' hl => ?_)
  exact kk H locs ls' a1_ a2_ a3_ (LH.st1 (L := a0 :: a1 :: a2 :: a3 :: a4 :: a5 :: a6 :: a7 :: a8 :: r) a4_.1 (fun j w e1 e2 => by
      obtain rfl : j = 7 := by omega
      cases e2
      exact hc) hl)
theorem v_astore8 (h : Ok0 cc own ret R Γ) {x : Nat} {a0 a1 a2 a3 a4 a5 a6 a7 a8 : Option Value} {r : List (Option Value)} (d : decode cc pc = .ok (.astore 8, 2)) (hn : pc + 2 = n') (hc : c2 a7 = false) (kk : V Γ k n hp n' (a0 :: a1 :: a2 :: a3 :: a4 :: a5 :: a6 :: a7 :: some (.ref x) :: r) st) : V Γ k n hp pc (a0 :: a1 :: a2 :: a3 :: a4 :: a5 :: a6 :: a7 :: a8 :: r) (.ref x :: st) := fun H locs ls a1_ a2_ a3_ a4_ => by
  subst hn
  refine lv_astore (i := 8) h.1 h.2.1 d a4_.2 (by rw [← a4_.1]; simp) rfl (fun ls' hl => ?_)
  exact kk H locs ls' a1_ a2_ a3_ (LH.st1 (L := a0 :: a1 :: a2 :: a3 :: a4 :: a5 :: a6 :: a7 :: a8 :: r) a4_.1 (fun j w e1 e2 => by
      obtain rfl : j = 7 := by omega
      cases e2
      exact hc) hl)
theorem v_astore8N (h : Ok0 cc own ret R Γ)  {a0 a1 a2 a3 a4 a5 a6 a7 a8 : Option Value} {r : List (Option Value)} (d : decode cc pc = .ok (.astore 8, 2)) (hn : pc + 2 = n') (hc : c2 a7 = false) (kk : V Γ k n hp n' (a0 :: a1 :: a2 :: a3 :: a4 :: a5 :: a6 :: a7 :: some (.null) :: r) st) : V Γ k n hp pc (a0 :: a1 :: a2 :: a3 :: a4 :: a5 :: a6 :: a7 :: a8 :: r) (.null :: st) := fun H locs ls a1_ a2_ a3_ a4_ => by
  subst hn
  refine lv_astoreN (i := 8) h.1 h.2.1 d a4_.2 (by rw [← a4_.1]; simp) rfl (fun ls' hl => ?_)
  exact kk H locs ls' a1_ a2_ a3_ (LH.st1 (L := a0 :: a1 :: a2 :: a3 :: a4 :: a5 :: a6 :: a7 :: a8 :: r) a4_.1 (fun j w e1 e2 => by
      obtain rfl : j = 7 := by omega
      cases e2
      exact hc) hl)
theorem v_astore8Q (h : Ok0 cc own ret R Γ) {x : Option Nat} {a0 a1 a2 a3 a4 a5 a6 a7 a8 : Option Value} {r : List (Option Value)} (d : decode cc pc = .ok (.astore 8, 2)) (hn : pc + 2 = n') (hc : c2 a7 = false) (kk : V Γ k n hp n' (a0 :: a1 :: a2 :: a3 :: a4 :: a5 :: a6 :: a7 :: some (va_rf x) :: r) st) : V Γ k n hp pc (a0 :: a1 :: a2 :: a3 :: a4 :: a5 :: a6 :: a7 :: a8 :: r) (va_rf x :: st) := by
  cases x with
  | none => exact v_astore8N h d hn hc kk
  | some x => exact v_astore8 h d hn hc kk
theorem v_lstore8 (h : Ok0 cc own ret R Γ) {x : Int64} {a0 a1 a2 a3 a4 a5 a6 a7 a8 a9 : Option Value} {r : List (Option Value)} (d : decode cc pc = .ok (.lstore 8, 2)) (hn : pc + 2 = n') (hc : c2 a7 = false) (kk : V Γ k n hp n' (a0 :: a1 :: a2 :: a3 :: a4 :: a5 :: a6 :: a7 :: some (.long x) :: none :: r) st) : V Γ k n hp pc (a0 :: a1 :: a2 :: a3 :: a4 :: a5 :: a6 :: a7 :: a8 :: a9 :: r) (.long x :: st) := fun H locs ls a1_ a2_ a3_ a4_ => by
  subst hn
  refine lv_lstore (i := 8) h.1 h.2.1 d a4_.2 (by rw [← a4_.1]; simp) rfl (fun ls' hl => ?_)
  exact kk H locs ls' a1_ a2_ a3_ (LH.st2 (L := a0 :: a1 :: a2 :: a3 :: a4 :: a5 :: a6 :: a7 :: a8 :: a9 :: r) a4_.1 (fun j w e1 e2 => by
      obtain rfl : j = 7 := by omega
      cases e2
      exact hc) hl)
theorem v_iinc8 (h : Ok0 cc own ret R Γ) {x z : Int} {a0 a1 a2 a3 a4 a5 a6 a7 : Option Value} {r : List (Option Value)} (d : decode cc pc = .ok (.iinc 8 z, 3)) (hn : pc + 3 = n') (hc : c2 a7 = false) (kk : V Γ k n hp n' (a0 :: a1 :: a2 :: a3 :: a4 :: a5 :: a6 :: a7 :: some (.int (iI (x + z))) :: r) st) : V Γ k n hp pc (a0 :: a1 :: a2 :: a3 :: a4 :: a5 :: a6 :: a7 :: some (.int (iI x)) :: r) st := fun H locs ls a1_ a2_ a3_ a4_ => by
  subst hn
  obtain ⟨j, hj⟩ := List.getElem?_of_mem ((mem_prs (L := a0 :: a1 :: a2 :: a3 :: a4 :: a5 :: a6 :: a7 :: some (.int (iI x)) :: r) (j := 8) (w := .int (iI x))).mpr rfl)
  refine lv_iinc (i := 8) (v := iI (x + z)) h.1 h.2.1 d a4_.2 hj (iI_add x z) (by rw [← a4_.1]; simp) rfl (fun ls' hl => ?_)
  exact kk H locs ls' a1_ a2_ a3_ (LH.st1 (L := a0 :: a1 :: a2 :: a3 :: a4 :: a5 :: a6 :: a7 :: some (.int (iI x)) :: r) a4_.1 (fun j w e1 e2 => by
      obtain rfl : j = 7 := by omega
      cases e2
      exact hc) hl)
theorem v_istore9 (h : Ok0 cc own ret R Γ) {x : Int32} {a0 a1 a2 a3 a4 a5 a6 a7 a8 a9 : Option Value} {r : List (Option Value)} (d : decode cc pc = .ok (.istore 9, 2)) (hn : pc + 2 = n') (hc : c2 a8 = false) (kk : V Γ k n hp n' (a0 :: a1 :: a2 :: a3 :: a4 :: a5 :: a6 :: a7 :: a8 :: some (.int x) :: r) st) : V Γ k n hp pc (a0 :: a1 :: a2 :: a3 :: a4 :: a5 :: a6 :: a7 :: a8 :: a9 :: r) (.int x :: st) := fun H locs ls a1_ a2_ a3_ a4_ => by
  subst hn
  refine lv_istore (i := 9) h.1 h.2.1 d a4_.2 (by rw [← a4_.1]; simp) rfl (fun ls' hl => ?_)
  exact kk H locs ls' a1_ a2_ a3_ (LH.st1 (L := a0 :: a1 :: a2 :: a3 :: a4 :: a5 :: a6 :: a7 :: a8 :: a9 :: r) a4_.1 (fun j w e1 e2 => by
      obtain rfl : j = 8 := by omega
      cases e2
      exact hc) hl)
theorem v_astore9 (h : Ok0 cc own ret R Γ) {x : Nat} {a0 a1 a2 a3 a4 a5 a6 a7 a8 a9 : Option Value} {r : List (Option Value)} (d : decode cc pc = .ok (.astore 9, 2)) (hn : pc + 2 = n') (hc : c2 a8 = false) (kk : V Γ k n hp n' (a0 :: a1 :: a2 :: a3 :: a4 :: a5 :: a6 :: a7 :: a8 :: some (.ref x) :: r) st) : V Γ k n hp pc (a0 :: a1 :: a2 :: a3 :: a4 :: a5 :: a6 :: a7 :: a8 :: a9 :: r) (.ref x :: st) := fun H locs ls a1_ a2_ a3_ a4_ => by
  subst hn
  refine lv_astore (i := 9) h.1 h.2.1 d a4_.2 (by rw [← a4_.1]; simp) rfl (fun ls' hl => ?_)
  exact kk H locs ls' a1_ a2_ a3_ (LH.st1 (L := a0 :: a1 :: a2 :: a3 :: a4 :: a5 :: a6 :: a7 :: a8 :: a9 :: r) a4_.1 (fun j w e1 e2 => by
      obtain rfl : j = 8 := by omega
      cases e2
      exact hc) hl)
theorem v_astore9N (h : Ok0 cc own ret R Γ)  {a0 a1 a2 a3 a4 a5 a6 a7 a8 a9 : Option Value} {r : List (Option Value)} (d : decode cc pc = .ok (.astore 9, 2)) (hn : pc + 2 = n') (hc : c2 a8 = false) (kk : V Γ k n hp n' (a0 :: a1 :: a2 :: a3 :: a4 :: a5 :: a6 :: a7 :: a8 :: some (.null) :: r) st) : V Γ k n hp pc (a0 :: a1 :: a2 :: a3 :: a4 :: a5 :: a6 :: a7 :: a8 :: a9 :: r) (.null :: st) := fun H locs ls a1_ a2_ a3_ a4_ => by
  subst hn
  refine lv_astoreN (i := 9) h.1 h.2.1 d a4_.2 (by rw [← a4_.1]; simp) rfl (fun ls' hl => ?_)
  exact kk H locs ls' a1_ a2_ a3_ (LH.st1 (L := a0 :: a1 :: a2 :: a3 :: a4 :: a5 :: a6 :: a7 :: a8 :: a9 :: r) a4_.1 (fun j w e1 e2 => by
      obtain rfl : j = 8 := by omega
      cases e2
      exact hc) hl)
theorem v_astore9Q (h : Ok0 cc own ret R Γ) {x : Option Nat} {a0 a1 a2 a3 a4 a5 a6 a7 a8 a9 : Option Value} {r : List (Option Value)} (d : decode cc pc = .ok (.astore 9, 2)) (hn : pc + 2 = n') (hc : c2 a8 = false) (kk : V Γ k n hp n' (a0 :: a1 :: a2 :: a3 :: a4 :: a5 :: a6 :: a7 :: a8 :: some (va_rf x) :: r) st) : V Γ k n hp pc (a0 :: a1 :: a2 :: a3 :: a4 :: a5 :: a6 :: a7 :: a8 :: a9 :: r) (va_rf x :: st) := by
  cases x with
  | none => exact v_astore9N h d hn hc kk
  | some x => exact v_astore9 h d hn hc kk
theorem v_lstore9 (h : Ok0 cc own ret R Γ) {x : Int64} {a0 a1 a2 a3 a4 a5 a6 a7 a8 a9 a10 : Option Value} {r : List (Option Value)} (d : decode cc pc = .ok (.lstore 9, 2)) (hn : pc + 2 = n') (hc : c2 a8 = false) (kk : V Γ k n hp n' (a0 :: a1 :: a2 :: a3 :: a4 :: a5 :: a6 :: a7 :: a8 :: some (.long x) :: none :: r) st) : V Γ k n hp pc (a0 :: a1 :: a2 :: a3 :: a4 :: a5 :: a6 :: a7 :: a8 :: a9 :: a10 :: r) (.long x :: st) := fun H locs ls a1_ a2_ a3_ a4_ => by
  subst hn
  refine lv_lstore (i := 9) h.1 h.2.1 d a4_.2 (by rw [← a4_.1]; simp) rfl (fun ls' hl => ?_)
  exact kk H locs ls' a1_ a2_ a3_ (LH.st2 (L := a0 :: a1 :: a2 :: a3 :: a4 :: a5 :: a6 :: a7 :: a8 :: a9 :: a10 :: r) a4_.1 (fun j w e1 e2 => by
      obtain rfl : j = 8 := by omega
      cases e2
      exact hc) hl)
theorem v_iinc9 (h : Ok0 cc own ret R Γ) {x z : Int} {a0 a1 a2 a3 a4 a5 a6 a7 a8 : Option Value} {r : List (Option Value)} (d : decode cc pc = .ok (.iinc 9 z, 3)) (hn : pc + 3 = n') (hc : c2 a8 = false) (kk : V Γ k n hp n' (a0 :: a1 :: a2 :: a3 :: a4 :: a5 :: a6 :: a7 :: a8 :: some (.int (iI (x + z))) :: r) st) : V Γ k n hp pc (a0 :: a1 :: a2 :: a3 :: a4 :: a5 :: a6 :: a7 :: a8 :: some (.int (iI x)) :: r) st := fun H locs ls a1_ a2_ a3_ a4_ => by
  subst hn
  obtain ⟨j, hj⟩ := List.getElem?_of_mem ((mem_prs (L := a0 :: a1 :: a2 :: a3 :: a4 :: a5 :: a6 :: a7 :: a8 :: some (.int (iI x)) :: r) (j := 9) (w := .int (iI x))).mpr rfl)
  refine lv_iinc (i := 9) (v := iI (x + z)) h.1 h.2.1 d a4_.2 hj (iI_add x z) (by rw [← a4_.1]; simp) rfl (fun ls' hl => ?_)
  exact kk H locs ls' a1_ a2_ a3_ (LH.st1 (L := a0 :: a1 :: a2 :: a3 :: a4 :: a5 :: a6 :: a7 :: a8 :: some (.int (iI x)) :: r) a4_.1 (fun j w e1 e2 => by
      obtain rfl : j = 8 := by omega
      cases e2
      exact hc) hl)
theorem v_istore10 (h : Ok0 cc own ret R Γ) {x : Int32} {a0 a1 a2 a3 a4 a5 a6 a7 a8 a9 a10 : Option Value} {r : List (Option Value)} (d : decode cc pc = .ok (.istore 10, 2)) (hn : pc + 2 = n') (hc : c2 a9 = false) (kk : V Γ k n hp n' (a0 :: a1 :: a2 :: a3 :: a4 :: a5 :: a6 :: a7 :: a8 :: a9 :: some (.int x) :: r) st) : V Γ k n hp pc (a0 :: a1 :: a2 :: a3 :: a4 :: a5 :: a6 :: a7 :: a8 :: a9 :: a10 :: r) (.int x :: st) := fun H locs ls a1_ a2_ a3_ a4_ => by
  subst hn
  refine lv_istore (i := 10) h.1 h.2.1 d a4_.2 (by rw [← a4_.1]; simp) rfl (fun ls' hl => ?_)
  exact kk H locs ls' a1_ a2_ a3_ (LH.st1 (L := a0 :: a1 :: a2 :: a3 :: a4 :: a5 :: a6 :: a7 :: a8 :: a9 :: a10 :: r) a4_.1 (fun j w e1 e2 => by
      obtain rfl : j = 9 := by omega
      cases e2
      exact hc) hl)
theorem v_astore10 (h : Ok0 cc own ret R Γ) {x : Nat} {a0 a1 a2 a3 a4 a5 a6 a7 a8 a9 a10 : Option Value} {r : List (Option Value)} (d : decode cc pc = .ok (.astore 10, 2)) (hn : pc + 2 = n') (hc : c2 a9 = false) (kk : V Γ k n hp n' (a0 :: a1 :: a2 :: a3 :: a4 :: a5 :: a6 :: a7 :: a8 :: a9 :: some (.ref x) :: r) st) : V Γ k n hp pc (a0 :: a1 :: a2 :: a3 :: a4 :: a5 :: a6 :: a7 :: a8 :: a9 :: a10 :: r) (.ref x :: st) := fun H locs ls a1_ a2_ a3_ a4_ => by
  subst hn
  refine lv_astore (i := 10) h.1 h.2.1 d a4_.2 (by rw [← a4_.1]; simp) rfl (fun ls' hl => ?_)
  exact kk H locs ls' a1_ a2_ a3_ (LH.st1 (L := a0 :: a1 :: a2 :: a3 :: a4 :: a5 :: a6 :: a7 :: a8 :: a9 :: a10 :: r) a4_.1 (fun j w e1 e2 => by
      obtain rfl : j = 9 := by omega
      cases e2
      exact hc) hl)
theorem v_astore10N (h : Ok0 cc own ret R Γ)  {a0 a1 a2 a3 a4 a5 a6 a7 a8 a9 a10 : Option Value} {r : List (Option Value)} (d : decode cc pc = .ok (.astore 10, 2)) (hn : pc + 2 = n') (hc : c2 a9 = false) (kk : V Γ k n hp n' (a0 :: a1 :: a2 :: a3 :: a4 :: a5 :: a6 :: a7 :: a8 :: a9 :: some (.null) :: r) st) : V Γ k n hp pc (a0 :: a1 :: a2 :: a3 :: a4 :: a5 :: a6 :: a7 :: a8 :: a9 :: a10 :: r) (.null :: st) := fun H locs ls a1_ a2_ a3_ a4_ => by
  subst hn
  refine lv_astoreN (i := 10) h.1 h.2.1 d a4_.2 (by rw [← a4_.1]; simp) rfl (fun ls' hl => ?_)
  exact kk H locs ls' a1_ a2_ a3_ (LH.st1 (L := a0 :: a1 :: a2 :: a3 :: a4 :: a5 :: a6 :: a7 :: a8 :: a9 :: a10 :: r) a4_.1 (fun j w e1 e2 => by
      obtain rfl : j = 9 := by omega
      cases e2
      exact hc) hl)
theorem v_astore10Q (h : Ok0 cc own ret R Γ) {x : Option Nat} {a0 a1 a2 a3 a4 a5 a6 a7 a8 a9 a10 : Option Value} {r : List (Option Value)} (d : decode cc pc = .ok (.astore 10, 2)) (hn : pc + 2 = n') (hc : c2 a9 = false) (kk : V Γ k n hp n' (a0 :: a1 :: a2 :: a3 :: a4 :: a5 :: a6 :: a7 :: a8 :: a9 :: some (va_rf x) :: r) st) : V Γ k n hp pc (a0 :: a1 :: a2 :: a3 :: a4 :: a5 :: a6 :: a7 :: a8 :: a9 :: a10 :: r) (va_rf x :: st) := by
  cases x with
  | none => exact v_astore10N h d hn hc kk
  | some x => exact v_astore10 h d hn hc kk
theorem v_lstore10 (h : Ok0 cc own ret R Γ) {x : Int64} {a0 a1 a2 a3 a4 a5 a6 a7 a8 a9 a10 a11 : Option Value} {r : List (Option Value)} (d : decode cc pc = .ok (.lstore 10, 2)) (hn : pc + 2 = n') (hc : c2 a9 = false) (kk : V Γ k n hp n' (a0 :: a1 :: a2 :: a3 :: a4 :: a5 :: a6 :: a7 :: a8 :: a9 :: some (.long x) :: none :: r) st) : V Γ k n hp pc (a0 :: a1 :: a2 :: a3 :: a4 :: a5 :: a6 :: a7 :: a8 :: a9 :: a10 :: a11 :: r) (.long x :: st) := fun H locs ls a1_ a2_ a3_ a4_ => by
  subst hn
  refine lv_lstore (i := 10) h.1 h.2.1 d a4_.2 (by rw [← a4_.1]; simp) rfl (fun ls' hl => ?_)
  exact kk H locs ls' a1_ a2_ a3_ (LH.st2 (L := a0 :: a1 :: a2 :: a3 :: a4 :: a5 :: a6 :: a7 :: a8 :: a9 :: a10 :: a11 :: r) a4_.1 (fun j w e1 e2 => by
      obtain rfl : j = 9 := by omega
      cases e2
      exact hc) hl)
theorem v_iinc10 (h : Ok0 cc own ret R Γ) {x z : Int} {a0 a1 a2 a3 a4 a5 a6 a7 a8 a9 : Option Value} {r : List (Option Value)} (d : decode cc pc = .ok (.iinc 10 z, 3)) (hn : pc + 3 = n') (hc : c2 a9 = false) (kk : V Γ k n hp n' (a0 :: a1 :: a2 :: a3 :: a4 :: a5 :: a6 :: a7 :: a8 :: a9 :: some (.int (iI (x + z))) :: r) st) : V Γ k n hp pc (a0 :: a1 :: a2 :: a3 :: a4 :: a5 :: a6 :: a7 :: a8 :: a9 :: some (.int (iI x)) :: r) st := fun H locs ls a1_ a2_ a3_ a4_ => by
  subst hn
  obtain ⟨j, hj⟩ := List.getElem?_of_mem ((mem_prs (L := a0 :: a1 :: a2 :: a3 :: a4 :: a5 :: a6 :: a7 :: a8 :: a9 :: some (.int (iI x)) :: r) (j := 10) (w := .int (iI x))).mpr rfl)
  refine lv_iinc (i := 10) (v := iI (x + z)) h.1 h.2.1 d a4_.2 hj (iI_add x z) (by rw [← a4_.1]; simp) rfl (fun ls' hl => ?_)
  exact kk H locs ls' a1_ a2_ a3_ (LH.st1 (L := a0 :: a1 :: a2 :: a3 :: a4 :: a5 :: a6 :: a7 :: a8 :: a9 :: some (.int (iI x)) :: r) a4_.1 (fun j w e1 e2 => by
      obtain rfl : j = 9 := by omega
      cases e2
      exact hc) hl)
theorem v_istore11 (h : Ok0 cc own ret R Γ) {x : Int32} {a0 a1 a2 a3 a4 a5 a6 a7 a8 a9 a10 a11 : Option Value} {r : List (Option Value)} (d : decode cc pc = .ok (.istore 11, 2)) (hn : pc + 2 = n') (hc : c2 a10 = false) (kk : V Γ k n hp n' (a0 :: a1 :: a2 :: a3 :: a4 :: a5 :: a6 :: a7 :: a8 :: a9 :: a10 :: some (.int x) :: r) st) : V Γ k n hp pc (a0 :: a1 :: a2 :: a3 :: a4 :: a5 :: a6 :: a7 :: a8 :: a9 :: a10 :: a11 :: r) (.int x :: st) := fun H locs ls a1_ a2_ a3_ a4_ => by
  subst hn
  refine lv_istore (i := 11) h.1 h.2.1 d a4_.2 (by rw [← a4_.1]; simp) rfl (fun ls' hl => ?_)
  exact kk H locs ls' a1_ a2_ a3_ (LH.st1 (L := a0 :: a1 :: a2 :: a3 :: a4 :: a5 :: a6 :: a7 :: a8 :: a9 :: a10 :: a11 :: r) a4_.1 (fun j w e1 e2 => by
      obtain rfl : j = 10 := by omega
      cases e2
      exact hc) hl)
theorem v_astore11 (h : Ok0 cc own ret R Γ) {x : Nat} {a0 a1 a2 a3 a4 a5 a6 a7 a8 a9 a10 a11 : Option Value} {r : List (Option Value)} (d : decode cc pc = .ok (.astore 11, 2)) (hn : pc + 2 = n') (hc : c2 a10 = false) (kk : V Γ k n hp n' (a0 :: a1 :: a2 :: a3 :: a4 :: a5 :: a6 :: a7 :: a8 :: a9 :: a10 :: some (.ref x) :: r) st) : V Γ k n hp pc (a0 :: a1 :: a2 :: a3 :: a4 :: a5 :: a6 :: a7 :: a8 :: a9 :: a10 :: a11 :: r) (.ref x :: st) := fun H locs ls a1_ a2_ a3_ a4_ => by
  subst hn
  refine lv_astore (i := 11) h.1 h.2.1 d a4_.2 (by rw [← a4_.1]; simp) rfl (fun ls' hl => ?_)
  exact kk H locs ls' a1_ a2_ a3_ (LH.st1 (L := a0 :: a1 :: a2 :: a3 :: a4 :: a5 :: a6 :: a7 :: a8 :: a9 :: a10 :: a11 :: r) a4_.1 (fun j w e1 e2 => by
      obtain rfl : j = 10 := by omega
      cases e2
      exact hc) hl)
theorem v_astore11N (h : Ok0 cc own ret R Γ)  {a0 a1 a2 a3 a4 a5 a6 a7 a8 a9 a10 a11 : Option Value} {r : List (Option Value)} (d : decode cc pc = .ok (.astore 11, 2)) (hn : pc + 2 = n') (hc : c2 a10 = false) (kk : V Γ k n hp n' (a0 :: a1 :: a2 :: a3 :: a4 :: a5 :: a6 :: a7 :: a8 :: a9 :: a10 :: some (.null) :: r) st) : V Γ k n hp pc (a0 :: a1 :: a2 :: a3 :: a4 :: a5 :: a6 :: a7 :: a8 :: a9 :: a10 :: a11 :: r) (.null :: st) := fun H locs ls a1_ a2_ a3_ a4_ => by
  subst hn
  refine lv_astoreN (i := 11) h.1 h.2.1 d a4_.2 (by rw [← a4_.1]; simp) rfl (fun ls' hl => ?_)
  exact kk H locs ls' a1_ a2_ a3_ (LH.st1 (L := a0 :: a1 :: a2 :: a3 :: a4 :: a5 :: a6 :: a7 :: a8 :: a9 :: a10 :: a11 :: r) a4_.1 (fun j w e1 e2 => by
      obtain rfl : j = 10 := by omega
      cases e2
      exact hc) hl)
theorem v_astore11Q (h : Ok0 cc own ret R Γ) {x : Option Nat} {a0 a1 a2 a3 a4 a5 a6 a7 a8 a9 a10 a11 : Option Value} {r : List (Option Value)} (d : decode cc pc = .ok (.astore 11, 2)) (hn : pc + 2 = n') (hc : c2 a10 = false) (kk : V Γ k n hp n' (a0 :: a1 :: a2 :: a3 :: a4 :: a5 :: a6 :: a7 :: a8 :: a9 :: a10 :: some (va_rf x) :: r) st) : V Γ k n hp pc (a0 :: a1 :: a2 :: a3 :: a4 :: a5 :: a6 :: a7 :: a8 :: a9 :: a10 :: a11 :: r) (va_rf x :: st) := by
  cases x with
  | none => exact v_astore11N h d hn hc kk
  | some x => exact v_astore11 h d hn hc kk
theorem v_lstore11 (h : Ok0 cc own ret R Γ) {x : Int64} {a0 a1 a2 a3 a4 a5 a6 a7 a8 a9 a10 a11 a12 : Option Value} {r : List (Option Value)} (d : decode cc pc = .ok (.lstore 11, 2)) (hn : pc + 2 = n') (hc : c2 a10 = false) (kk : V Γ k n hp n' (a0 :: a1 :: a2 :: a3 :: a4 :: a5 :: a6 :: a7 :: a8 :: a9 :: a10 :: some (.long x) :: none :: r) st) : V Γ k n hp pc (a0 :: a1 :: a2 :: a3 :: a4 :: a5 :: a6 :: a7 :: a8 :: a9 :: a10 :: a11 :: a12 :: r) (.long x :: st) := fun H locs ls a1_ a2_ a3_ a4_ => by
  subst hn
  refine lv_lstore (i := 11) h.1 h.2.1 d a4_.2 (by rw [← a4_.1]; simp) rfl (fun ls' hl => ?_)
  exact kk H locs ls' a1_ a2_ a3_ (LH.st2 (L := a0 :: a1 :: a2 :: a3 :: a4 :: a5 :: a6 :: a7 :: a8 :: a9 :: a10 :: a11 :: a12 :: r) a4_.1 (fun j w e1 e2 => by
      obtain rfl : j = 10 := by omega
      cases e2
      exact hc) hl)
theorem v_iinc11 (h : Ok0 cc own ret R Γ) {x z : Int} {a0 a1 a2 a3 a4 a5 a6 a7 a8 a9 a10 : Option Value} {r : List (Option Value)} (d : decode cc pc = .ok (.iinc 11 z, 3)) (hn : pc + 3 = n') (hc : c2 a10 = false) (kk : V Γ k n hp n' (a0 :: a1 :: a2 :: a3 :: a4 :: a5 :: a6 :: a7 :: a8 :: a9 :: a10 :: some (.int (iI (x + z))) :: r) st) : V Γ k n hp pc (a0 :: a1 :: a2 :: a3 :: a4 :: a5 :: a6 :: a7 :: a8 :: a9 :: a10 :: some (.int (iI x)) :: r) st := fun H locs ls a1_ a2_ a3_ a4_ => by
  subst hn
  obtain ⟨j, hj⟩ := List.getElem?_of_mem ((mem_prs (L := a0 :: a1 :: a2 :: a3 :: a4 :: a5 :: a6 :: a7 :: a8 :: a9 :: a10 :: some (.int (iI x)) :: r) (j := 11) (w := .int (iI x))).mpr rfl)
  refine lv_iinc (i := 11) (v := iI (x + z)) h.1 h.2.1 d a4_.2 hj (iI_add x z) (by rw [← a4_.1]; simp) rfl (fun ls' hl => ?_)
  exact kk H locs ls' a1_ a2_ a3_ (LH.st1 (L := a0 :: a1 :: a2 :: a3 :: a4 :: a5 :: a6 :: a7 :: a8 :: a9 :: a10 :: some (.int (iI x)) :: r) a4_.1 (fun j w e1 e2 => by
      obtain rfl : j = 10 := by omega
      cases e2
      exact hc) hl)
theorem v_istore12 (h : Ok0 cc own ret R Γ) {x : Int32} {a0 a1 a2 a3 a4 a5 a6 a7 a8 a9 a10 a11 a12 : Option Value} {r : List (Option Value)} (d : decode cc pc = .ok (.istore 12, 2)) (hn : pc + 2 = n') (hc : c2 a11 = false) (kk : V Γ k n hp n' (a0 :: a1 :: a2 :: a3 :: a4 :: a5 :: a6 :: a7 :: a8 :: a9 :: a10 :: a11 :: some (.int x) :: r) st) : V Γ k n hp pc (a0 :: a1 :: a2 :: a3 :: a4 :: a5 :: a6 :: a7 :: a8 :: a9 :: a10 :: a11 :: a12 :: r) (.int x :: st) := fun H locs ls a1_ a2_ a3_ a4_ => by
  subst hn
  refine lv_istore (i := 12) h.1 h.2.1 d a4_.2 (by rw [← a4_.1]; simp) rfl (fun ls' hl => ?_)
  exact kk H locs ls' a1_ a2_ a3_ (LH.st1 (L := a0 :: a1 :: a2 :: a3 :: a4 :: a5 :: a6 :: a7 :: a8 :: a9 :: a10 :: a11 :: a12 :: r) a4_.1 (fun j w e1 e2 => by
      obtain rfl : j = 11 := by omega
      cases e2
      exact hc) hl)
theorem v_astore12 (h : Ok0 cc own ret R Γ) {x : Nat} {a0 a1 a2 a3 a4 a5 a6 a7 a8 a9 a10 a11 a12 : Option Value} {r : List (Option Value)} (d : decode cc pc = .ok (.astore 12, 2)) (hn : pc + 2 = n') (hc : c2 a11 = false) (kk : V Γ k n hp n' (a0 :: a1 :: a2 :: a3 :: a4 :: a5 :: a6 :: a7 :: a8 :: a9 :: a10 :: a11 :: some (.ref x) :: r) st) : V Γ k n hp pc (a0 :: a1 :: a2 :: a3 :: a4 :: a5 :: a6 :: a7 :: a8 :: a9 :: a10 :: a11 :: a12 :: r) (.ref x :: st) := fun H locs ls a1_ a2_ a3_ a4_ => by
  subst hn
  refine lv_astore (i := 12) h.1 h.2.1 d a4_.2 (by rw [← a4_.1]; simp) rfl (fun ls' hl => ?_)
  exact kk H locs ls' a1_ a2_ a3_ (LH.st1 (L := a0 :: a1 :: a2 :: a3 :: a4 :: a5 :: a6 :: a7 :: a8 :: a9 :: a10 :: a11 :: a12 :: r) a4_.1 (fun j w e1 e2 => by
      obtain rfl : j = 11 := by omega
      cases e2
      exact hc) hl)
theorem v_astore12N (h : Ok0 cc own ret R Γ)  {a0 a1 a2 a3 a4 a5 a6 a7 a8 a9 a10 a11 a12 : Option Value} {r : List (Option Value)} (d : decode cc pc = .ok (.astore 12, 2)) (hn : pc + 2 = n') (hc : c2 a11 = false) (kk : V Γ k n hp n' (a0 :: a1 :: a2 :: a3 :: a4 :: a5 :: a6 :: a7 :: a8 :: a9 :: a10 :: a11 :: some (.null) :: r) st) : V Γ k n hp pc (a0 :: a1 :: a2 :: a3 :: a4 :: a5 :: a6 :: a7 :: a8 :: a9 :: a10 :: a11 :: a12 :: r) (.null :: st) := fun H locs ls a1_ a2_ a3_ a4_ => by
  subst hn
  refine lv_astoreN (i := 12) h.1 h.2.1 d a4_.2 (by rw [← a4_.1]; simp) rfl (fun ls' hl => ?_)
  exact kk H locs ls' a1_ a2_ a3_ (LH.st1 (L := a0 :: a1 :: a2 :: a3 :: a4 :: a5 :: a6 :: a7 :: a8 :: a9 :: a10 :: a11 :: a12 :: r) a4_.1 (fun j w e1 e2 => by
      obtain rfl : j = 11 := by omega
      cases e2
      exact hc) hl)
theorem v_astore12Q (h : Ok0 cc own ret R Γ) {x : Option Nat} {a0 a1 a2 a3 a4 a5 a6 a7 a8 a9 a10 a11 a12 : Option Value} {r : List (Option Value)} (d : decode cc pc = .ok (.astore 12, 2)) (hn : pc + 2 = n') (hc : c2 a11 = false) (kk : V Γ k n hp n' (a0 :: a1 :: a2 :: a3 :: a4 :: a5 :: a6 :: a7 :: a8 :: a9 :: a10 :: a11 :: some (va_rf x) :: r) st) : V Γ k n hp pc (a0 :: a1 :: a2 :: a3 :: a4 :: a5 :: a6 :: a7 :: a8 :: a9 :: a10 :: a11 :: a12 :: r) (va_rf x :: st) := by
  cases x with
  | none => exact v_astore12N h d hn hc kk
  | some x => exact v_astore12 h d hn hc kk
theorem v_lstore12 (h : Ok0 cc own ret R Γ) {x : Int64} {a0 a1 a2 a3 a4 a5 a6 a7 a8 a9 a10 a11 a12 a13 : Option Value} {r : List (Option Value)} (d : decode cc pc = .ok (.lstore 12, 2)) (hn : pc + 2 = n') (hc : c2 a11 = false) (kk : V Γ k n hp n' (a0 :: a1 :: a2 :: a3 :: a4 :: a5 :: a6 :: a7 :: a8 :: a9 :: a10 :: a11 :: some (.long x) :: none :: r) st) : V Γ k n hp pc (a0 :: a1 :: a2 :: a3 :: a4 :: a5 :: a6 :: a7 :: a8 :: a9 :: a10 :: a11 :: a12 :: a13 :: r) (.long x :: st) := fun H locs ls a1_ a2_ a3_ a4_ => by
  subst hn
  refine lv_lstore (i := 12) h.1 h.2.1 d a4_.2 (by rw [← a4_.1]; simp) rfl (fun ls' hl => ?_)
  exact kk H locs ls' a1_ a2_ a3_ (LH.st2 (L := a0 :: a1 :: a2 :: a3 :: a4 :: a5 :: a6 :: a7 :: a8 :: a9 :: a10 :: a11 :: a12 :: a13 :: r) a4_.1 (fun j w e1 e2 => by
      obtain rfl : j = 11 := by omega
      cases e2
      exact hc) hl)
theorem v_iinc12 (h : Ok0 cc own ret R Γ) {x z : Int} {a0 a1 a2 a3 a4 a5 a6 a7 a8 a9 a10 a11 : Option Value} {r : List (Option Value)} (d : decode cc pc = .ok (.iinc 12 z, 3)) (hn : pc + 3 = n') (hc : c2 a11 = false) (kk : V Γ k n hp n' (a0 :: a1 :: a2 :: a3 :: a4 :: a5 :: a6 :: a7 :: a8 :: a9 :: a10 :: a11 :: some (.int (iI (x + z))) :: r) st) : V Γ k n hp pc (a0 :: a1 :: a2 :: a3 :: a4 :: a5 :: a6 :: a7 :: a8 :: a9 :: a10 :: a11 :: some (.int (iI x)) :: r) st := fun H locs ls a1_ a2_ a3_ a4_ => by
  subst hn
  obtain ⟨j, hj⟩ := List.getElem?_of_mem ((mem_prs (L := a0 :: a1 :: a2 :: a3 :: a4 :: a5 :: a6 :: a7 :: a8 :: a9 :: a10 :: a11 :: some (.int (iI x)) :: r) (j := 12) (w := .int (iI x))).mpr rfl)
  refine lv_iinc (i := 12) (v := iI (x + z)) h.1 h.2.1 d a4_.2 hj (iI_add x z) (by rw [← a4_.1]; simp) rfl (fun ls' hl => ?_)
  exact kk H locs ls' a1_ a2_ a3_ (LH.st1 (L := a0 :: a1 :: a2 :: a3 :: a4 :: a5 :: a6 :: a7 :: a8 :: a9 :: a10 :: a11 :: some (.int (iI x)) :: r) a4_.1 (fun j w e1 e2 => by
      obtain rfl : j = 11 := by omega
      cases e2
      exact hc) hl)
theorem v_istore13 (h : Ok0 cc own ret R Γ) {x : Int32} {a0 a1 a2 a3 a4 a5 a6 a7 a8 a9 a10 a11 a12 a13 : Option Value} {r : List (Option Value)} (d : decode cc pc = .ok (.istore 13, 2)) (hn : pc + 2 = n') (hc : c2 a12 = false) (kk : V Γ k n hp n' (a0 :: a1 :: a2 :: a3 :: a4 :: a5 :: a6 :: a7 :: a8 :: a9 :: a10 :: a11 :: a12 :: some (.int x) :: r) st) : V Γ k n hp pc (a0 :: a1 :: a2 :: a3 :: a4 :: a5 :: a6 :: a7 :: a8 :: a9 :: a10 :: a11 :: a12 :: a13 :: r) (.int x :: st) := fun H locs ls a1_ a2_ a3_ a4_ => by
  subst hn
  refine lv_istore (i := 13) h.1 h.2.1 d a4_.2 (by rw [← a4_.1]; simp) rfl (fun ls' hl => ?_)
  exact kk H locs ls' a1_ a2_ a3_ (LH.st1 (L := a0 :: a1 :: a2 :: a3 :: a4 :: a5 :: a6 :: a7 :: a8 :: a9 :: a10 :: a11 :: a12 :: a13 :: r) a4_.1 (fun j w e1 e2 => by
      obtain rfl : j = 12 := by omega
      cases e2
      exact hc) hl)
theorem v_astore13 (h : Ok0 cc own ret R Γ) {x : Nat} {a0 a1 a2 a3 a4 a5 a6 a7 a8 a9 a10 a11 a12 a13 : Option Value} {r : List (Option Value)} (d : decode cc pc = .ok (.astore 13, 2)) (hn : pc + 2 = n') (hc : c2 a12 = false) (kk : V Γ k n hp n' (a0 :: a1 :: a2 :: a3 :: a4 :: a5 :: a6 :: a7 :: a8 :: a9 :: a10 :: a11 :: a12 :: some (.ref x) :: r) st) : V Γ k n hp pc (a0 :: a1 :: a2 :: a3 :: a4 :: a5 :: a6 :: a7 :: a8 :: a9 :: a10 :: a11 :: a12 :: a13 :: r) (.ref x :: st) := fun H locs ls a1_ a2_ a3_ a4_ => by
  subst hn
  refine lv_astore (i := 13) h.1 h.2.1 d a4_.2 (by rw [← a4_.1]; simp) rfl (fun ls' hl => ?_)
  exact kk H locs ls' a1_ a2_ a3_ (LH.st1 (L := a0 :: a1 :: a2 :: a3 :: a4 :: a5 :: a6 :: a7 :: a8 :: a9 :: a10 :: a11 :: a12 :: a13 :: r) a4_.1 (fun j w e1 e2 => by
      obtain rfl : j = 12 := by omega
      cases e2
      exact hc) hl)
theorem v_astore13N (h : Ok0 cc own ret R Γ)  {a0 a1 a2 a3 a4 a5 a6 a7 a8 a9 a10 a11 a12 a13 : Option Value} {r : List (Option Value)} (d : decode cc pc = .ok (.astore 13, 2)) (hn : pc + 2 = n') (hc : c2 a12 = false) (kk : V Γ k n hp n' (a0 :: a1 :: a2 :: a3 :: a4 :: a5 :: a6 :: a7 :: a8 :: a9 :: a10 :: a11 :: a12 :: some (.null) :: r) st) : V Γ k n hp pc (a0 :: a1 :: a2 :: a3 :: a4 :: a5 :: a6 :: a7 :: a8 :: a9 :: a10 :: a11 :: a12 :: a13 :: r) (.null :: st) := fun H locs ls a1_ a2_ a3_ a4_ => by
  subst hn
  refine lv_astoreN (i := 13) h.1 h.2.1 d a4_.2 (by rw [← a4_.1]; simp) rfl (fun ls' hl => ?_)
  exact kk H locs ls' a1_ a2_ a3_ (LH.st1 (L := a0 :: a1 :: a2 :: a3 :: a4 :: a5 :: a6 :: a7 :: a8 :: a9 :: a10 :: a11 :: a12 :: a13 :: r) a4_.1 (fun j w e1 e2 => by
      obtain rfl : j = 12 := by omega
      cases e2
      exact hc) hl)
theorem v_astore13Q (h : Ok0 cc own ret R Γ) {x : Option Nat} {a0 a1 a2 a3 a4 a5 a6 a7 a8 a9 a10 a11 a12 a13 : Option Value} {r : List (Option Value)} (d : decode cc pc = .ok (.astore 13, 2)) (hn : pc + 2 = n') (hc : c2 a12 = false) (kk : V Γ k n hp n' (a0 :: a1 :: a2 :: a3 :: a4 :: a5 :: a6 :: a7 :: a8 :: a9 :: a10 :: a11 :: a12 :: some (va_rf x) :: r) st) : V Γ k n hp pc (a0 :: a1 :: a2 :: a3 :: a4 :: a5 :: a6 :: a7 :: a8 :: a9 :: a10 :: a11 :: a12 :: a13 :: r) (va_rf x :: st) := by
  cases x with
  | none => exact v_astore13N h d hn hc kk
  | some x => exact v_astore13 h d hn hc kk
theorem v_lstore13 (h : Ok0 cc own ret R Γ) {x : Int64} {a0 a1 a2 a3 a4 a5 a6 a7 a8 a9 a10 a11 a12 a13 a14 : Option Value} {r : List (Option Value)} (d : decode cc pc = .ok (.lstore 13, 2)) (hn : pc + 2 = n') (hc : c2 a12 = false) (kk : V Γ k n hp n' (a0 :: a1 :: a2 :: a3 :: a4 :: a5 :: a6 :: a7 :: a8 :: a9 :: a10 :: a11 :: a12 :: some (.long x) :: none :: r) st) : V Γ k n hp pc (a0 :: a1 :: a2 :: a3 :: a4 :: a5 :: a6 :: a7 :: a8 :: a9 :: a10 :: a11 :: a12 :: a13 :: a14 :: r) (.long x :: st) := fun H locs ls a1_ a2_ a3_ a4_ => by
  subst hn
  refine lv_lstore (i := 13) h.1 h.2.1 d a4_.2 (by rw [← a4_.1]; simp) rfl (fun ls' hl => ?_)
  exact kk H locs ls' a1_ a2_ a3_ (LH.st2 (L := a0 :: a1 :: a2 :: a3 :: a4 :: a5 :: a6 :: a7 :: a8 :: a9 :: a10 :: a11 :: a12 :: a13 :: a14 :: r) a4_.1 (fun j w e1 e2 => by
      obtain rfl : j = 12 := by omega
      cases e2
      exact hc) hl)
theorem v_iinc13 (h : Ok0 cc own ret R Γ) {x z : Int} {a0 a1 a2 a3 a4 a5 a6 a7 a8 a9 a10 a11 a12 : Option Value} {r : List (Option Value)} (d : decode cc pc = .ok (.iinc 13 z, 3)) (hn : pc + 3 = n') (hc : c2 a12 = false) (kk : V Γ k n hp n' (a0 :: a1 :: a2 :: a3 :: a4 :: a5 :: a6 :: a7 :: a8 :: a9 :: a10 :: a11 :: a12 :: some (.int (iI (x + z))) :: r) st) : V Γ k n hp pc (a0 :: a1 :: a2 :: a3 :: a4 :: a5 :: a6 :: a7 :: a8 :: a9 :: a10 :: a11 :: a12 :: some (.int (iI x)) :: r) st := fun H locs ls a1_ a2_ a3_ a4_ => by
  subst hn
  obtain ⟨j, hj⟩ := List.getElem?_of_mem ((mem_prs (L := a0 :: a1 :: a2 :: a3 :: a4 :: a5 :: a6 :: a7 :: a8 :: a9 :: a10 :: a11 :: a12 :: some (.int (iI x)) :: r) (j := 13) (w := .int (iI x))).mpr rfl)
  refine lv_iinc (i := 13) (v := iI (x + z)) h.1 h.2.1 d a4_.2 hj (iI_add x z) (by rw [← a4_.1]; simp) rfl (fun ls' hl => ?_)
  exact kk H locs ls' a1_ a2_ a3_ (LH.st1 (L := a0 :: a1 :: a2 :: a3 :: a4 :: a5 :: a6 :: a7 :: a8 :: a9 :: a10 :: a11 :: a12 :: some (.int (iI x)) :: r) a4_.1 (fun j w e1 e2 => by
      obtain rfl : j = 12 := by omega
      cases e2
      exact hc) hl)
theorem v_iadd (h : Ok0 cc own ret R Γ) {x y : Int} (d : decode cc pc = .ok (.iadd, 1)) (hn : pc + 1 = n')  (kk : V Γ k n hp n' L (.int (iI (x + y)) :: st)) : V Γ k n hp pc L (.int (iI y) :: .int (iI x) :: st) := fun H locs ls a1 a2 a3 a4 => by
  subst hn
  have q := kk H locs ls a1 a2 a3 a4
  rw [← iI_add] at q; exact lv_iadd h.1 h.2.1 d q
theorem v_isub (h : Ok0 cc own ret R Γ) {x y : Int} (d : decode cc pc = .ok (.isub, 1)) (hn : pc + 1 = n')  (kk : V Γ k n hp n' L (.int (iI (x - y)) :: st)) : V Γ k n hp pc L (.int (iI y) :: .int (iI x) :: st) := fun H locs ls a1 a2 a3 a4 => by
  subst hn
  have q := kk H locs ls a1 a2 a3 a4
  rw [← iI_sub] at q; exact lv_isub h.1 h.2.1 d q
theorem v_imul (h : Ok0 cc own ret R Γ) {x y : Int} (d : decode cc pc = .ok (.imul, 1)) (hn : pc + 1 = n')  (kk : V Γ k n hp n' L (.int (iI (x * y)) :: st)) : V Γ k n hp pc L (.int (iI y) :: .int (iI x) :: st) := fun H locs ls a1 a2 a3 a4 => by
  subst hn
  have q := kk H locs ls a1 a2 a3 a4
  rw [← iI_mul] at q; exact lv_imul h.1 h.2.1 d q
theorem v_ladd (h : Ok0 cc own ret R Γ) {x y : Int} (d : decode cc pc = .ok (.ladd, 1)) (hn : pc + 1 = n')  (kk : V Γ k n hp n' L (.long (lI (x + y)) :: st)) : V Γ k n hp pc L (.long (lI y) :: .long (lI x) :: st) := fun H locs ls a1 a2 a3 a4 => by
  subst hn
  have q := kk H locs ls a1 a2 a3 a4
  rw [← lI_add] at q; exact lv_ladd h.1 h.2.1 d q
theorem v_lsub (h : Ok0 cc own ret R Γ) {x y : Int} (d : decode cc pc = .ok (.lsub, 1)) (hn : pc + 1 = n')  (kk : V Γ k n hp n' L (.long (lI (x - y)) :: st)) : V Γ k n hp pc L (.long (lI y) :: .long (lI x) :: st) := fun H locs ls a1 a2 a3 a4 => by
  subst hn
  have q := kk H locs ls a1 a2 a3 a4
  rw [← lI_sub] at q; exact lv_lsub h.1 h.2.1 d q
theorem v_lmul (h : Ok0 cc own ret R Γ) {x y : Int} (d : decode cc pc = .ok (.lmul, 1)) (hn : pc + 1 = n')  (kk : V Γ k n hp n' L (.long (lI (x * y)) :: st)) : V Γ k n hp pc L (.long (lI y) :: .long (lI x) :: st) := fun H locs ls a1 a2 a3 a4 => by
  subst hn
  have q := kk H locs ls a1 a2 a3 a4
  rw [← lI_mul] at q; exact lv_lmul h.1 h.2.1 d q
theorem v_ineg (h : Ok0 cc own ret R Γ) {x : Int} (d : decode cc pc = .ok (.ineg, 1)) (hn : pc + 1 = n')  (kk : V Γ k n hp n' L (.int (iI (-x)) :: st)) : V Γ k n hp pc L (.int (iI x) :: st) := fun H locs ls a1 a2 a3 a4 => by
  subst hn
  have q := kk H locs ls a1 a2 a3 a4
  rw [← iI_neg] at q; exact lv_ineg h.1 h.2.1 d q
theorem v_idiv (h : Ok0 cc own ret R Γ) {x y : Int} (d : decode cc pc = .ok (.idiv, 1)) (hn : pc + 1 = n') (hx : 0 ≤ x ∧ x ≤ 2147483647) (hy : 0 < y ∧ y ≤ 2147483647) (kk : V Γ k n hp n' L (.int (iI (x / y)) :: st)) : V Γ k n hp pc L (.int (iI y) :: .int (iI x) :: st) := fun H locs ls a1 a2 a3 a4 => by
  subst hn
  have q := kk H locs ls a1 a2 a3 a4
  rw [← iI_div hx hy] at q; exact lv_idiv h.1 h.2.1 d (by intro z; have := (iI_eq (by omega) (by omega)).mp (z.trans iI_0.symm); omega) q
theorem v_irem (h : Ok0 cc own ret R Γ) {x y : Int} (d : decode cc pc = .ok (.irem, 1)) (hn : pc + 1 = n') (hx : 0 ≤ x ∧ x ≤ 2147483647) (hy : 0 < y ∧ y ≤ 2147483647) (kk : V Γ k n hp n' L (.int (iI (x % y)) :: st)) : V Γ k n hp pc L (.int (iI y) :: .int (iI x) :: st) := fun H locs ls a1 a2 a3 a4 => by
  subst hn
  have q := kk H locs ls a1 a2 a3 a4
  rw [← iI_rem hx hy] at q; exact lv_irem h.1 h.2.1 d (by intro z; have := (iI_eq (by omega) (by omega)).mp (z.trans iI_0.symm); omega) q
theorem v_ldiv (h : Ok0 cc own ret R Γ) {x y : Int} (d : decode cc pc = .ok (.ldiv, 1)) (hn : pc + 1 = n') (hx : 0 ≤ x ∧ x ≤ 9223372036854775807) (hy : 0 < y ∧ y ≤ 9223372036854775807) (kk : V Γ k n hp n' L (.long (lI (x / y)) :: st)) : V Γ k n hp pc L (.long (lI y) :: .long (lI x) :: st) := fun H locs ls a1 a2 a3 a4 => by
  subst hn
  have q := kk H locs ls a1 a2 a3 a4
  rw [← lI_div hx hy] at q; exact lv_ldiv h.1 h.2.1 d (by intro z; have := (lI_eq (a := y) (b := 0) (by omega) (by omega)).mp (z.trans (by decide)); omega) q
theorem v_lrem (h : Ok0 cc own ret R Γ) {x y : Int} (d : decode cc pc = .ok (.lrem, 1)) (hn : pc + 1 = n') (hx : 0 ≤ x ∧ x ≤ 9223372036854775807) (hy : 0 < y ∧ y ≤ 9223372036854775807) (kk : V Γ k n hp n' L (.long (lI (x % y)) :: st)) : V Γ k n hp pc L (.long (lI y) :: .long (lI x) :: st) := fun H locs ls a1 a2 a3 a4 => by
  subst hn
  have q := kk H locs ls a1 a2 a3 a4
  rw [← lI_rem hx hy] at q; exact lv_lrem h.1 h.2.1 d (by intro z; have := (lI_eq (a := y) (b := 0) (by omega) (by omega)).mp (z.trans (by decide)); omega) q
theorem v_iand (h : Ok0 cc own ret R Γ) {x y v : Int32} (d : decode cc pc = .ok (.iand, 1)) (hn : pc + 1 = n') (hv : x &&& y = v) (kk : V Γ k n hp n' L (.int v :: st)) : V Γ k n hp pc L (.int y :: .int x :: st) := fun H locs ls a1 a2 a3 a4 => by
  subst hn
  have q := kk H locs ls a1 a2 a3 a4
  rw [← hv] at q; exact lv_iand h.1 h.2.1 d q
theorem v_ior (h : Ok0 cc own ret R Γ) {x y v : Int32} (d : decode cc pc = .ok (.ior, 1)) (hn : pc + 1 = n') (hv : x ||| y = v) (kk : V Γ k n hp n' L (.int v :: st)) : V Γ k n hp pc L (.int y :: .int x :: st) := fun H locs ls a1 a2 a3 a4 => by
  subst hn
  have q := kk H locs ls a1 a2 a3 a4
  rw [← hv] at q; exact lv_ior h.1 h.2.1 d q
theorem v_ishl (h : Ok0 cc own ret R Γ) {x y v : Int32} (d : decode cc pc = .ok (.ishl, 1)) (hn : pc + 1 = n') (hv : x <<< (y &&& 31) = v) (kk : V Γ k n hp n' L (.int v :: st)) : V Γ k n hp pc L (.int y :: .int x :: st) := fun H locs ls a1 a2 a3 a4 => by
  subst hn
  have q := kk H locs ls a1 a2 a3 a4
  rw [← hv] at q; exact lv_ishl h.1 h.2.1 d q
theorem v_ishr (h : Ok0 cc own ret R Γ) {x y v : Int32} (d : decode cc pc = .ok (.ishr, 1)) (hn : pc + 1 = n') (hv : x >>> (y &&& 31) = v) (kk : V Γ k n hp n' L (.int v :: st)) : V Γ k n hp pc L (.int y :: .int x :: st) := fun H locs ls a1 a2 a3 a4 => by
  subst hn
  have q := kk H locs ls a1 a2 a3 a4
  rw [← hv] at q; exact lv_ishr h.1 h.2.1 d q
theorem v_land (h : Ok0 cc own ret R Γ) {x y v : Int64} (d : decode cc pc = .ok (.land, 1)) (hn : pc + 1 = n') (hv : x &&& y = v) (kk : V Γ k n hp n' L (.long v :: st)) : V Γ k n hp pc L (.long y :: .long x :: st) := fun H locs ls a1 a2 a3 a4 => by
  subst hn
  have q := kk H locs ls a1 a2 a3 a4
  rw [← hv] at q; exact lv_land h.1 h.2.1 d q
theorem v_i2l (h : Ok0 cc own ret R Γ) {x : Int} (d : decode cc pc = .ok (.i2l, 1)) (hn : pc + 1 = n') (hx : -2147483648 ≤ x ∧ x ≤ 2147483647) (kk : V Γ k n hp n' L (.long (lI x) :: st)) : V Γ k n hp pc L (.int (iI x) :: st) := fun H locs ls a1 a2 a3 a4 => by
  subst hn
  have q := kk H locs ls a1 a2 a3 a4
  exact lv_i2l h.1 h.2.1 d (iI_l hx) q
theorem v_l2i (h : Ok0 cc own ret R Γ) {x : Int} (d : decode cc pc = .ok (.l2i, 1)) (hn : pc + 1 = n')  (kk : V Γ k n hp n' L (.int (iI x) :: st)) : V Γ k n hp pc L (.long (lI x) :: st) := fun H locs ls a1 a2 a3 a4 => by
  subst hn
  have q := kk H locs ls a1 a2 a3 a4
  exact lv_l2i h.1 h.2.1 d (lI_i x) q
theorem v_i2b (h : Ok0 cc own ret R Γ) {x v : Int32} (d : decode cc pc = .ok (.i2b, 1)) (hn : pc + 1 = n') (hv : x.toInt8.toInt32 = v) (kk : V Γ k n hp n' L (.int v :: st)) : V Γ k n hp pc L (.int x :: st) := fun H locs ls a1 a2 a3 a4 => by
  subst hn
  have q := kk H locs ls a1 a2 a3 a4
  exact lv_i2b h.1 h.2.1 d hv q
theorem v_dup (h : Ok0 cc own ret R Γ) {v : Value} (d : decode cc pc = .ok (.dup, 1)) (hn : pc + 1 = n') (hv : v.category = 1) (kk : V Γ k n hp n' L (v :: v :: st)) : V Γ k n hp pc L (v :: st) := fun H locs ls a1 a2 a3 a4 => by
  subst hn
  have q := kk H locs ls a1 a2 a3 a4
  exact lv_dup h.1 h.2.1 d hv q
theorem v_pop (h : Ok0 cc own ret R Γ) {v : Value} (d : decode cc pc = .ok (.pop, 1)) (hn : pc + 1 = n') (hv : v.category = 1) (kk : V Γ k n hp n' L (st)) : V Γ k n hp pc L (v :: st) := fun H locs ls a1 a2 a3 a4 => by
  subst hn
  have q := kk H locs ls a1 a2 a3 a4
  exact lv_pop h.1 h.2.1 d hv q
theorem v_dup2 (h : Ok0 cc own ret R Γ) {v w : Value} (d : decode cc pc = .ok (.dup2, 1)) (hn : pc + 1 = n') (hv : v.category = 1) (hw : w.category = 1) (kk : V Γ k n hp n' L (v :: w :: v :: w :: st)) : V Γ k n hp pc L (v :: w :: st) := fun H locs ls a1 a2 a3 a4 => by
  subst hn
  have q := kk H locs ls a1 a2 a3 a4
  exact lv_dup2_11 h.1 h.2.1 d hv hw q
theorem v_dup_x1 (h : Ok0 cc own ret R Γ) {v w : Value} (d : decode cc pc = .ok (.dup_x1, 1)) (hn : pc + 1 = n') (hv : v.category = 1) (hw : w.category = 1) (kk : V Γ k n hp n' L (v :: w :: v :: st)) : V Γ k n hp pc L (v :: w :: st) := fun H locs ls a1 a2 a3 a4 => by
  subst hn
  have q := kk H locs ls a1 a2 a3 a4
  exact lv_dup_x1 h.1 h.2.1 d hv hw q
theorem v_goto (h : Ok0 cc own ret R Γ) {off : Int} {tgt : Nat} (d : decode cc pc = .ok (.goto off, 3)) (ht : (pc : Int) + off = (tgt : Int)) (kk : V Γ k n hp tgt L st) : V Γ k n hp pc L st := fun H locs ls a1 a2 a3 a4 => lv_goto h.1 h.2.1 d ht (kk H locs ls a1 a2 a3 a4)
theorem v_icmp_eq (h : Ok0 cc own ret R Γ) {x y off : Int} {tgt : Nat} (d : decode cc pc = .ok (.if_icmp .eq off, 3)) (ht : (pc : Int) + off = (tgt : Int)) (hn : pc + 3 = n') (hx : -2147483648 ≤ x ∧ x ≤ 2147483647) (hy : -2147483648 ≤ y ∧ y ≤ 2147483647) (kt : x = y → V Γ k n hp tgt L st) (kf : ¬ x = y → V Γ k n hp n' L st) : V Γ k n hp pc L (.int (iI y) :: .int (iI x) :: st) := fun H locs ls a1 a2 a3 a4 => by
  subst hn
  exact lv_icmp_eq h.1 h.2.1 d ht (fun z => kt ((iI_eq hx hy).mp z) H locs ls a1 a2 a3 a4) (fun z => kf (fun e => z ((iI_eq hx hy).mpr e)) H locs ls a1 a2 a3 a4)
theorem v_if_eq (h : Ok0 cc own ret R Γ) {x off : Int} {tgt : Nat} (d : decode cc pc = .ok (.ifCond .eq off, 3)) (ht : (pc : Int) + off = (tgt : Int)) (hn : pc + 3 = n') (hx : -2147483648 ≤ x ∧ x ≤ 2147483647) (kt : x = 0 → V Γ k n hp tgt L st) (kf : ¬ x = 0 → V Γ k n hp n' L st) : V Γ k n hp pc L (.int (iI x) :: st) := fun H locs ls a1 a2 a3 a4 => by
  subst hn
  have h0 : -2147483648 ≤ (0 : Int) ∧ (0 : Int) ≤ 2147483647 := by omega
  have e0 : (0 : Int32) = iI 0 := iI_0.symm
  refine lv_if_eq h.1 h.2.1 d ht (fun z => ?_) (fun z => ?_)
  · rw [e0] at z; exact (fun z => kt ((iI_eq hx h0).mp z) H locs ls a1 a2 a3 a4) z
  · rw [e0] at z; exact (fun z => kf (fun e => z ((iI_eq hx h0).mpr e)) H locs ls a1 a2 a3 a4) z
theorem v_icmp_ne (h : Ok0 cc own ret R Γ) {x y off : Int} {tgt : Nat} (d : decode cc pc = .ok (.if_icmp .ne off, 3)) (ht : (pc : Int) + off = (tgt : Int)) (hn : pc + 3 = n') (hx : -2147483648 ≤ x ∧ x ≤ 2147483647) (hy : -2147483648 ≤ y ∧ y ≤ 2147483647) (kt : ¬ x = y → V Γ k n hp tgt L st) (kf : x = y → V Γ k n hp n' L st) : V Γ k n hp pc L (.int (iI y) :: .int (iI x) :: st) := fun H locs ls a1 a2 a3 a4 => by
  subst hn
  exact lv_icmp_ne h.1 h.2.1 d ht (fun z => kt (fun e => z ((iI_eq hx hy).mpr e)) H locs ls a1 a2 a3 a4) (fun z => kf ((iI_eq hx hy).mp z) H locs ls a1 a2 a3 a4)
theorem v_if_ne (h : Ok0 cc own ret R Γ) {x off : Int} {tgt : Nat} (d : decode cc pc = .ok (.ifCond .ne off, 3)) (ht : (pc : Int) + off = (tgt : Int)) (hn : pc + 3 = n') (hx : -2147483648 ≤ x ∧ x ≤ 2147483647) (kt : ¬ x = 0 → V Γ k n hp tgt L st) (kf : x = 0 → V Γ k n hp n' L st) : V Γ k n hp pc L (.int (iI x) :: st) := fun H locs ls a1 a2 a3 a4 => by
  subst hn
  have h0 : -2147483648 ≤ (0 : Int) ∧ (0 : Int) ≤ 2147483647 := by omega
  have e0 : (0 : Int32) = iI 0 := iI_0.symm
  refine lv_if_ne h.1 h.2.1 d ht (fun z => ?_) (fun z => ?_)
  · rw [e0] at z; exact (fun z => kt (fun e => z ((iI_eq hx h0).mpr e)) H locs ls a1 a2 a3 a4) z
  · rw [e0] at z; exact (fun z => kf ((iI_eq hx h0).mp z) H locs ls a1 a2 a3 a4) z
theorem v_icmp_lt (h : Ok0 cc own ret R Γ) {x y off : Int} {tgt : Nat} (d : decode cc pc = .ok (.if_icmp .lt off, 3)) (ht : (pc : Int) + off = (tgt : Int)) (hn : pc + 3 = n') (hx : -2147483648 ≤ x ∧ x ≤ 2147483647) (hy : -2147483648 ≤ y ∧ y ≤ 2147483647) (kt : x < y → V Γ k n hp tgt L st) (kf : ¬ x < y → V Γ k n hp n' L st) : V Γ k n hp pc L (.int (iI y) :: .int (iI x) :: st) := fun H locs ls a1 a2 a3 a4 => by
  subst hn
  exact lv_icmp_lt h.1 h.2.1 d ht (fun z => kt ((iI_lt hx hy).mp z) H locs ls a1 a2 a3 a4) (fun z => kf (fun e => z ((iI_lt hx hy).mpr e)) H locs ls a1 a2 a3 a4)
theorem v_if_lt (h : Ok0 cc own ret R Γ) {x off : Int} {tgt : Nat} (d : decode cc pc = .ok (.ifCond .lt off, 3)) (ht : (pc : Int) + off = (tgt : Int)) (hn : pc + 3 = n') (hx : -2147483648 ≤ x ∧ x ≤ 2147483647) (kt : x < 0 → V Γ k n hp tgt L st) (kf : ¬ x < 0 → V Γ k n hp n' L st) : V Γ k n hp pc L (.int (iI x) :: st) := fun H locs ls a1 a2 a3 a4 => by
  subst hn
  have h0 : -2147483648 ≤ (0 : Int) ∧ (0 : Int) ≤ 2147483647 := by omega
  have e0 : (0 : Int32) = iI 0 := iI_0.symm
  refine lv_if_lt h.1 h.2.1 d ht (fun z => ?_) (fun z => ?_)
  · rw [e0] at z; exact (fun z => kt ((iI_lt hx h0).mp z) H locs ls a1 a2 a3 a4) z
  · rw [e0] at z; exact (fun z => kf (fun e => z ((iI_lt hx h0).mpr e)) H locs ls a1 a2 a3 a4) z
theorem v_icmp_ge (h : Ok0 cc own ret R Γ) {x y off : Int} {tgt : Nat} (d : decode cc pc = .ok (.if_icmp .ge off, 3)) (ht : (pc : Int) + off = (tgt : Int)) (hn : pc + 3 = n') (hx : -2147483648 ≤ x ∧ x ≤ 2147483647) (hy : -2147483648 ≤ y ∧ y ≤ 2147483647) (kt : y ≤ x → V Γ k n hp tgt L st) (kf : ¬ y ≤ x → V Γ k n hp n' L st) : V Γ k n hp pc L (.int (iI y) :: .int (iI x) :: st) := fun H locs ls a1 a2 a3 a4 => by
  subst hn
  exact lv_icmp_ge h.1 h.2.1 d ht (fun z => kt ((iI_le hy hx).mp z) H locs ls a1 a2 a3 a4) (fun z => kf (fun e => z ((iI_le hy hx).mpr e)) H locs ls a1 a2 a3 a4)
theorem v_if_ge (h : Ok0 cc own ret R Γ) {x off : Int} {tgt : Nat} (d : decode cc pc = .ok (.ifCond .ge off, 3)) (ht : (pc : Int) + off = (tgt : Int)) (hn : pc + 3 = n') (hx : -2147483648 ≤ x ∧ x ≤ 2147483647) (kt : 0 ≤ x → V Γ k n hp tgt L st) (kf : ¬ 0 ≤ x → V Γ k n hp n' L st) : V Γ k n hp pc L (.int (iI x) :: st) := fun H locs ls a1 a2 a3 a4 => by
  subst hn
  have h0 : -2147483648 ≤ (0 : Int) ∧ (0 : Int) ≤ 2147483647 := by omega
  have e0 : (0 : Int32) = iI 0 := iI_0.symm
  refine lv_if_ge h.1 h.2.1 d ht (fun z => ?_) (fun z => ?_)
  · rw [e0] at z; exact (fun z => kt ((iI_le h0 hx).mp z) H locs ls a1 a2 a3 a4) z
  · rw [e0] at z; exact (fun z => kf (fun e => z ((iI_le h0 hx).mpr e)) H locs ls a1 a2 a3 a4) z
theorem v_icmp_gt (h : Ok0 cc own ret R Γ) {x y off : Int} {tgt : Nat} (d : decode cc pc = .ok (.if_icmp .gt off, 3)) (ht : (pc : Int) + off = (tgt : Int)) (hn : pc + 3 = n') (hx : -2147483648 ≤ x ∧ x ≤ 2147483647) (hy : -2147483648 ≤ y ∧ y ≤ 2147483647) (kt : y < x → V Γ k n hp tgt L st) (kf : ¬ y < x → V Γ k n hp n' L st) : V Γ k n hp pc L (.int (iI y) :: .int (iI x) :: st) := fun H locs ls a1 a2 a3 a4 => by
  subst hn
  exact lv_icmp_gt h.1 h.2.1 d ht (fun z => kt ((iI_lt hy hx).mp z) H locs ls a1 a2 a3 a4) (fun z => kf (fun e => z ((iI_lt hy hx).mpr e)) H locs ls a1 a2 a3 a4)
theorem v_if_gt (h : Ok0 cc own ret R Γ) {x off : Int} {tgt : Nat} (d : decode cc pc = .ok (.ifCond .gt off, 3)) (ht : (pc : Int) + off = (tgt : Int)) (hn : pc + 3 = n') (hx : -2147483648 ≤ x ∧ x ≤ 2147483647) (kt : 0 < x → V Γ k n hp tgt L st) (kf : ¬ 0 < x → V Γ k n hp n' L st) : V Γ k n hp pc L (.int (iI x) :: st) := fun H locs ls a1 a2 a3 a4 => by
  subst hn
  have h0 : -2147483648 ≤ (0 : Int) ∧ (0 : Int) ≤ 2147483647 := by omega
  have e0 : (0 : Int32) = iI 0 := iI_0.symm
  refine lv_if_gt h.1 h.2.1 d ht (fun z => ?_) (fun z => ?_)
  · rw [e0] at z; exact (fun z => kt ((iI_lt h0 hx).mp z) H locs ls a1 a2 a3 a4) z
  · rw [e0] at z; exact (fun z => kf (fun e => z ((iI_lt h0 hx).mpr e)) H locs ls a1 a2 a3 a4) z
theorem v_icmp_le (h : Ok0 cc own ret R Γ) {x y off : Int} {tgt : Nat} (d : decode cc pc = .ok (.if_icmp .le off, 3)) (ht : (pc : Int) + off = (tgt : Int)) (hn : pc + 3 = n') (hx : -2147483648 ≤ x ∧ x ≤ 2147483647) (hy : -2147483648 ≤ y ∧ y ≤ 2147483647) (kt : x ≤ y → V Γ k n hp tgt L st) (kf : ¬ x ≤ y → V Γ k n hp n' L st) : V Γ k n hp pc L (.int (iI y) :: .int (iI x) :: st) := fun H locs ls a1 a2 a3 a4 => by
  subst hn
  exact lv_icmp_le h.1 h.2.1 d ht (fun z => kt ((iI_le hx hy).mp z) H locs ls a1 a2 a3 a4) (fun z => kf (fun e => z ((iI_le hx hy).mpr e)) H locs ls a1 a2 a3 a4)
theorem v_if_le (h : Ok0 cc own ret R Γ) {x off : Int} {tgt : Nat} (d : decode cc pc = .ok (.ifCond .le off, 3)) (ht : (pc : Int) + off = (tgt : Int)) (hn : pc + 3 = n') (hx : -2147483648 ≤ x ∧ x ≤ 2147483647) (kt : x ≤ 0 → V Γ k n hp tgt L st) (kf : ¬ x ≤ 0 → V Γ k n hp n' L st) : V Γ k n hp pc L (.int (iI x) :: st) := fun H locs ls a1 a2 a3 a4 => by
  subst hn
  have h0 : -2147483648 ≤ (0 : Int) ∧ (0 : Int) ≤ 2147483647 := by omega
  have e0 : (0 : Int32) = iI 0 := iI_0.symm
  refine lv_if_le h.1 h.2.1 d ht (fun z => ?_) (fun z => ?_)
  · rw [e0] at z; exact (fun z => kt ((iI_le hx h0).mp z) H locs ls a1 a2 a3 a4) z
  · rw [e0] at z; exact (fun z => kf (fun e => z ((iI_le hx h0).mpr e)) H locs ls a1 a2 a3 a4) z
theorem v_ifnull (h : Ok0 cc own ret R Γ) {o : Option Nat} {off : Int} {tgt : Nat} (d : decode cc pc = .ok (.ifnull off, 3)) (ht : (pc : Int) + off = (tgt : Int)) (hn : pc + 3 = n') (kt : o = none → V Γ k n hp tgt L st) (kf : ∀ a, o = some a → V Γ k n hp n' L st) : V Γ k n hp pc L (va_rf o :: st) := fun H locs ls a1 a2 a3 a4 => by
  subst hn
  cases o with
  | none => exact lv_ifnullN h.1 h.2.1 d ht (kt rfl H locs ls a1 a2 a3 a4)
  | some a => exact lv_ifnull h.1 h.2.1 d (kf a rfl H locs ls a1 a2 a3 a4)
theorem v_ifnonnull (h : Ok0 cc own ret R Γ) {o : Option Nat} {off : Int} {tgt : Nat} (d : decode cc pc = .ok (.ifnonnull off, 3)) (ht : (pc : Int) + off = (tgt : Int)) (hn : pc + 3 = n') (kt : ∀ a, o = some a → V Γ k n hp tgt L st) (kf : o = none → V Γ k n hp n' L st) : V Γ k n hp pc L (va_rf o :: st) := fun H locs ls a1 a2 a3 a4 => by
  subst hn
  cases o with
  | none => exact lv_ifnonnullN h.1 h.2.1 d (kf rfl H locs ls a1 a2 a3 a4)
  | some a => exact lv_ifnonnull h.1 h.2.1 d ht (kt a rfl H locs ls a1 a2 a3 a4)
theorem v_ifnullR (h : Ok0 cc own ret R Γ) {a : Nat} {off : Int} (d : decode cc pc = .ok (.ifnull off, 3)) (hn : pc + 3 = n') (kk : V Γ k n hp n' L st) : V Γ k n hp pc L (.ref a :: st) := fun H locs ls a1 a2 a3 a4 => by
  subst hn
  exact lv_ifnull h.1 h.2.1 d (kk H locs ls a1 a2 a3 a4)
theorem v_ifnonnullR (h : Ok0 cc own ret R Γ) {a : Nat} {off : Int} {tgt : Nat} (d : decode cc pc = .ok (.ifnonnull off, 3)) (ht : (pc : Int) + off = (tgt : Int)) (kk : V Γ k n hp tgt L st) : V Γ k n hp pc L (.ref a :: st) := fun H locs ls a1 a2 a3 a4 => lv_ifnonnull h.1 h.2.1 d ht (kk H locs ls a1 a2 a3 a4)
theorem v_acmp_eq (h : Ok0 cc own ret R Γ) {ra rb : Option Nat} {va vb : Value} {off : Int} {tgt : Nat} (d : decode cc pc = .ok (.if_acmp .eq off, 3)) (ht : (pc : Int) + off = (tgt : Int)) (hn : pc + 3 = n') (ha : va = va_rf ra) (hb : vb = va_rf rb) (kt : ra = rb → V Γ k n hp tgt L st) (kf : ¬ ra = rb → V Γ k n hp n' L st) : V Γ k n hp pc L (vb :: va :: st) := fun H locs ls a1 a2 a3 a4 => by
  subst hn ha hb
  exact lv_acmp_eq h.1 h.2.1 d ht (fun z => kt z H locs ls a1 a2 a3 a4) (fun z => kf z H locs ls a1 a2 a3 a4)
theorem v_acmp_ne (h : Ok0 cc own ret R Γ) {ra rb : Option Nat} {va vb : Value} {off : Int} {tgt : Nat} (d : decode cc pc = .ok (.if_acmp .ne off, 3)) (ht : (pc : Int) + off = (tgt : Int)) (hn : pc + 3 = n') (ha : va = va_rf ra) (hb : vb = va_rf rb) (kt : ¬ ra = rb → V Γ k n hp tgt L st) (kf : ra = rb → V Γ k n hp n' L st) : V Γ k n hp pc L (vb :: va :: st) := fun H locs ls a1 a2 a3 a4 => by
  subst hn ha hb
  exact lv_acmp_ne h.1 h.2.1 d ht (fun z => kt z H locs ls a1 a2 a3 a4) (fun z => kf z H locs ls a1 a2 a3 a4)
theorem v_tableIn (h : Ok0 cc own ret R Γ) {dflt lo hi x off : Int} {offs : Array Int} {len tgt : Nat} (d : decode cc pc = .ok (.tableswitch dflt lo hi offs, len)) (hx : -2147483648 ≤ x ∧ x ≤ 2147483647) (h1 : lo ≤ x) (h2 : x ≤ hi) (ho : offs[(x - lo).toNat]? = some off) (ht : (pc : Int) + off = (tgt : Int)) (kk : V Γ k n hp tgt L st) : V Γ k n hp pc L (.int (iI x) :: st) := fun H locs ls a1 a2 a3 a4 => lv_tableIn h.1 h.2.1 d (by rw [iI_ti hx]; omega) (by rw [iI_ti hx]; omega) (by rw [iI_ti hx]; exact ho) ht (kk H locs ls a1 a2 a3 a4)
theorem v_tableOut (h : Ok0 cc own ret R Γ) {dflt lo hi x : Int} {offs : Array Int} {len tgt : Nat} (d : decode cc pc = .ok (.tableswitch dflt lo hi offs, len)) (hx : -2147483648 ≤ x ∧ x ≤ 2147483647) (h1 : x < lo ∨ hi < x) (ht : (pc : Int) + dflt = (tgt : Int)) (kk : V Γ k n hp tgt L st) : V Γ k n hp pc L (.int (iI x) :: st) := fun H locs ls a1 a2 a3 a4 => lv_tableOut h.1 h.2.1 d (by rw [iI_ti hx]; exact h1) ht (kk H locs ls a1 a2 a3 a4)
theorem v_lookup (h : Ok0 cc own ret R Γ) {dflt x off : Int} {ps : Array (Int × Int)} {len tgt : Nat} (d : decode cc pc = .ok (.lookupswitch dflt ps, len)) (hx : -2147483648 ≤ x ∧ x ≤ 2147483647) (hp1 : (ps.toList.zip (ps.toList.drop 1)).all (fun (a, next) => a.1 < next.1) = true) (ho : Op.lookupswitch.offset ps.toList dflt x = off) (ht : (pc : Int) + off = (tgt : Int)) (kk : V Γ k n hp tgt L st) : V Γ k n hp pc L (.int (iI x) :: st) := fun H locs ls a1 a2 a3 a4 => lv_lookup h.1 h.2.1 d hp1 (by rw [iI_ti hx]; exact ho) ht (kk H locs ls a1 a2 a3 a4)
def lcv (x y : Int) : Int := if x < y then -1 else if x = y then 0 else 1
theorem lcv_r (x y : Int) : -2147483648 ≤ lcv x y ∧ lcv x y ≤ 2147483647 := by unfold lcv; split <;> first | omega | (split <;> omega)
theorem v_lcmp (h : Ok0 cc own ret R Γ) {x y : Int} (d : decode cc pc = .ok (.lcmp, 1)) (hn : pc + 1 = n') (hx : -9223372036854775808 ≤ x ∧ x ≤ 9223372036854775807) (hy : -9223372036854775808 ≤ y ∧ y ≤ 9223372036854775807) (kk : V Γ k n hp n' L (.int (iI (lcv x y)) :: st)) : V Γ k n hp pc L (.long (lI y) :: .long (lI x) :: st) := fun H locs ls a1 a2 a3 a4 => by
  subst hn
  have q := kk H locs ls a1 a2 a3 a4
  rw [show iI (lcv x y) = lg_cmp (lI x) (lI y) from ?_] at q
  · exact W.lcmp h.1 h.2.1 d q
  · have e1 := lI_lt hx hy
    have e2 := lI_eq hx hy
    unfold lg_cmp lcv
    have e3 := lI_lt hy hx
    by_cases c1 : x < y
    · rw [if_pos c1, if_neg (fun z => by have := e3.mp z; omega), if_neg (fun z => by have := e2.mp z; omega)]; decide
    · rw [if_neg c1]
      by_cases c2 : x = y
      · rw [if_pos c2, if_neg (fun z => by have := e3.mp z; omega), if_pos (e2.mpr c2)]; decide
      · rw [if_neg c2, if_pos (e3.mpr (by omega))]; decide
theorem v_iret {v : Int32} {post : Option Value → AH → Prop} {mc ms : Nat} (h : Ok0 cc own (some .int) R Γ) (hq : Rt post mc ms Γ) (d : decode cc pc = .ok (.ireturn, 1))  (hk : k ≤ mc) (hn : n ≤ ms) (hpost : post (some (.int v)) hp) : V Γ k n hp pc L [.int v] := fun H locs ls a1 a2 a3 a4 => by
  rw [show gQ Γ = _ from hq]
  refine W.widen hk hn ?_
  exact W.iret h.1 h.2.1 h.2.2.2.1 (fun t ht hWm => ⟨⟨_, hp, rfl, hpost, by rw [ht]; exact a1, a2⟩, a3.F ht⟩) a3.2.2 d h.2.2.2.2.2.2.2.2.1
theorem v_zret {x : Int} {post : Option Value → AH → Prop} {mc ms : Nat} (h : Ok0 cc own (some .boolean) R Γ) (hq : Rt post mc ms Γ) (d : decode cc pc = .ok (.ireturn, 1)) (hx : x = 0 ∨ x = 1) (hk : k ≤ mc) (hn : n ≤ ms) (hpost : post (some (.int (iI x))) hp) : V Γ k n hp pc L [.int (iI x)] := fun H locs ls a1 a2 a3 a4 => by
  rw [show gQ Γ = _ from hq]
  refine W.widen hk hn ?_
  exact W.zret h.1 h.2.1 h.2.2.2.1 (by rcases hx with rfl | rfl <;> decide) (fun t ht hWm => ⟨⟨_, hp, rfl, hpost, by rw [ht]; exact a1, a2⟩, a3.F ht⟩) a3.2.2 d h.2.2.2.2.2.2.2.2.1
theorem v_lret {v : Int64} {post : Option Value → AH → Prop} {mc ms : Nat} (h : Ok0 cc own (some .long) R Γ) (hq : Rt post mc ms Γ) (d : decode cc pc = .ok (.lreturn, 1))  (hk : k ≤ mc) (hn : n ≤ ms) (hpost : post (some (.long v)) hp) : V Γ k n hp pc L [.long v] := fun H locs ls a1 a2 a3 a4 => by
  rw [show gQ Γ = _ from hq]
  refine W.widen hk hn ?_
  exact W.lret h.1 h.2.1 h.2.2.2.1 (fun t ht hWm => ⟨⟨_, hp, rfl, hpost, by rw [ht]; exact a1, a2⟩, a3.F ht⟩) a3.2.2 d h.2.2.2.2.2.2.2.2.1
theorem v_vret  {post : Option Value → AH → Prop} {mc ms : Nat} (h : Ok0 cc own none R Γ) (hq : Rt post mc ms Γ) (d : decode cc pc = .ok (.return_, 1))  (hk : k ≤ mc) (hn : n ≤ ms) (hpost : post none hp) : V Γ k n hp pc L [] := fun H locs ls a1 a2 a3 a4 => by
  rw [show gQ Γ = _ from hq]
  refine W.widen hk hn ?_
  exact W.vret h.1 h.2.1 h.2.2.2.1 (fun t ht hWm => ⟨⟨_, hp, rfl, hpost, by rw [ht]; exact a1, a2⟩, a3.F ht⟩) a3.2.2 d h.2.2.2.2.2.2.2.2.1
theorem v_aret {v : Value} {rt : FieldType} {post : Option Value → AH → Prop} {mc ms : Nat} (h : Ok0 cc own (some rt) R Γ) (hq : Rt post mc ms Γ) (d : decode cc pc = .ok (.areturn, 1)) (hrt : (∃ n, rt = .object n) ∨ ∃ t, rt = .array t) (hv : v = .null ∨ ∃ a, v = .ref a) (hk : k ≤ mc) (hn : n ≤ ms) (hpost : post (some v) hp) : V Γ k n hp pc L [v] := fun H locs ls a1 a2 a3 a4 => by
  rw [show gQ Γ = _ from hq]
  refine W.widen hk hn ?_
  exact W.aret h.1 h.2.1 h.2.2.2.1 hrt hv (fun t ht hWm => ⟨⟨_, hp, rfl, hpost, by rw [ht]; exact a1, a2⟩, a3.F ht⟩) a3.2.2 d h.2.2.2.2.2.2.2.2.1
end VR
