/-! TREES: keys in a binary tree; what the class and the model both are tied to -/
abbrev Tr : Type := Lean.RArray Unit
def tl : Tr → List Nat
  | .leaf _ => []
  | .branch k l r => tl l ++ k :: tl r
def tz : Tr → Nat
  | .leaf _ => 0
  | .branch _ l r => tz l + tz r + 1
def th : Tr → Int
  | .leaf _ => -1
  | .branch _ l r => 1 + (if th l < th r then th r else th l)
def rk : Tr → Int
  | .leaf _ => -1
  | .branch k _ _ => (k : Int)
def ro : Tr → Option Nat
  | .leaf _ => none
  | .branch k _ _ => some k
def way : Tr → Nat → List Nat
  | .leaf _, _ => []
  | .branch x l r, k => if k = x then [x] else if k < x then x :: way l k else x :: way r k
def sub : Tr → Nat → Tr
  | .leaf u, _ => .leaf u
  | .branch x l r, k => if k = x then .branch x l r else if k < x then sub l k else sub r k
def ins : Tr → Nat → Tr
  | .leaf u, k => .branch k (.leaf u) (.leaf u)
  | .branch x l r, k => if k < x then .branch x (ins l k) r else .branch x l (ins r k)
def tmin : Tr → Nat → Nat
  | .leaf _, d => d
  | .branch x l _, _ => tmin l x
def del : Tr → Nat → Tr
  | .leaf u, _ => .leaf u
  | .branch x l r, k => if k = x then (match ro l, ro r with
      | none, _ => r
      | some _, none => l
      | some _, some y => .branch (tmin r y) l (del r (tmin r y))) else if k < x then .branch x (del l k) r else .branch x l (del r k)
def gr : Tr → Nat → Tr → Tr
  | .leaf u, _, _ => .leaf u
  | .branch x l r, k, S => if k = x then S else if k < x then .branch x (gr l k S) r else .branch x l (gr r k S)
/-- built flat: n keys of a row from lo on -/
def fl : Nat → (Nat → Nat) → Nat → Nat → Tr
  | 0, _, _, _ => .leaf ()
  | f + 1, w, lo, n => if n = 0 then .leaf () else .branch (w (lo + (n - 1) / 2)) (fl f w lo ((n - 1) / 2)) (fl f w (lo + (n - 1) / 2 + 1) (n - 1 - (n - 1) / 2))
def flat (T : Tr) : Tr := fl (tz T) (fun i => (tl T).getD i 0) 0 (tz T)
def Srt (T : Tr) : Prop := (tl T).Pairwise (· < ·)
def lop (a b : Int) : Tr → Prop
  | .leaf _ => False
  | .branch _ l r => b * (tz l : Int) > a * ((tz l : Int) + tz r + 1) ∨ b * (tz r : Int) > a * ((tz l : Int) + tz r + 1)
theorem tl_leaf (u : Unit) : tl (.leaf u) = [] := rfl
theorem tl_br (k : Nat) (l r : Tr) : tl (.branch k l r) = tl l ++ k :: tl r := rfl
theorem tz_len (T : Tr) : (tl T).length = tz T := by
  induction T with
  | leaf u => rfl
  | branch k l r ihl ihr => simp only [tl, tz, List.length_append, List.length_cons, ihl, ihr]; omega
theorem mem_br {x k : Nat} {l r : Tr} : x ∈ tl (.branch k l r) ↔ x ∈ tl l ∨ x = k ∨ x ∈ tl r := by
  simp [tl]
theorem srt_br {k : Nat} {l r : Tr} : Srt (.branch k l r) ↔ Srt l ∧ Srt r ∧ (∀ x ∈ tl l, x < k) ∧ (∀ x ∈ tl r, k < x) := by
  unfold Srt
  rw [tl_br, List.pairwise_append, List.pairwise_cons]
  constructor
  · rintro ⟨h1, ⟨h2, h3⟩, h4⟩
    exact ⟨h1, h3, fun x hx => h4 x hx k List.mem_cons_self, h2⟩
  · rintro ⟨h1, h2, h3, h4⟩
    refine ⟨h1, ⟨h4, h2⟩, fun x hx y hy => ?_⟩
    rcases List.mem_cons.mp hy with rfl | hy
    · exact h3 x hx
    · exact Nat.lt_trans (h3 x hx) (h4 y hy)
theorem ro_none {T : Tr} : ro T = none ↔ T = .leaf () := by
  cases T with
  | leaf u => simp [ro]
  | branch k l r => simp [ro]
theorem rk_ro (T : Tr) : rk T = (match ro T with | none => -1 | some k => (k : Int)) := by cases T <;> rfl
theorem ro_mem {T : Tr} {k : Nat} (h : ro T = some k) : k ∈ tl T := by
  cases T with
  | leaf u => cases h
  | branch x l r =>
    cases h
    exact mem_br.mpr (Or.inr (Or.inl rfl))
theorem way_mem {T : Tr} {k x : Nat} (h : x ∈ way T k) : x ∈ tl T := by
  induction T with
  | leaf u => simp [way] at h
  | branch y l r ihl ihr =>
    rw [mem_br]
    unfold way at h
    split at h
    · rw [List.mem_singleton] at h; exact Or.inr (Or.inl h)
    · split at h
      · rcases List.mem_cons.mp h with h | h
        · exact Or.inr (Or.inl h)
        · exact Or.inl (ihl h)
      · rcases List.mem_cons.mp h with h | h
        · exact Or.inr (Or.inl h)
        · exact Or.inr (Or.inr (ihr h))
theorem way_br {x k : Nat} {l r : Tr} : way (.branch x l r) k = if k = x then [x] else if k < x then x :: way l k else x :: way r k := rfl
theorem sub_br {x k : Nat} {l r : Tr} : sub (.branch x l r) k = if k = x then .branch x l r else if k < x then sub l k else sub r k := rfl
theorem mem_l {x k : Nat} {l r : Tr} (hs : Srt (.branch x l r)) (h : k ∈ tl (.branch x l r)) (hk : k < x) : k ∈ tl l := by
  obtain ⟨-, -, h3, h4⟩ := srt_br.mp hs
  rcases mem_br.mp h with h | h | h
  · exact h
  · omega
  · have := h4 k h; omega
theorem mem_r {x k : Nat} {l r : Tr} (hs : Srt (.branch x l r)) (h : k ∈ tl (.branch x l r)) (hk : x < k) : k ∈ tl r := by
  obtain ⟨-, -, h3, h4⟩ := srt_br.mp hs
  rcases mem_br.mp h with h | h | h
  · have := h3 k h; omega
  · omega
  · exact h
/-- a key that is there ends its own way -/
theorem way_self {T : Tr} {k : Nat} (hs : Srt T) (h : k ∈ tl T) : ∃ p, way T k = p ++ [k] := by
  induction T with
  | leaf u => simp [tl] at h
  | branch x l r ihl ihr =>
    rw [way_br]
    by_cases c : k = x
    · rw [if_pos c, c]; exact ⟨[], rfl⟩
    · rw [if_neg c]
      by_cases c2 : k < x
      · rw [if_pos c2]
        obtain ⟨p, hp⟩ := ihl (srt_br.mp hs).1 (mem_l hs h c2)
        exact ⟨x :: p, by rw [hp]; rfl⟩
      · rw [if_neg c2]
        obtain ⟨p, hp⟩ := ihr (srt_br.mp hs).2.1 (mem_r hs h (by omega))
        exact ⟨x :: p, by rw [hp]; rfl⟩
theorem sub_mem {T : Tr} {k x : Nat} (h : x ∈ tl (sub T k)) : x ∈ tl T := by
  induction T with
  | leaf u => exact h
  | branch y l r ihl ihr =>
    rw [sub_br] at h
    split at h
    · exact h
    · split at h
      · exact mem_br.mpr (Or.inl (ihl h))
      · exact mem_br.mpr (Or.inr (Or.inr (ihr h)))
theorem sub_srt {T : Tr} {k : Nat} (hs : Srt T) : Srt (sub T k) := by
  induction T with
  | leaf u => exact hs
  | branch y l r ihl ihr =>
    rw [sub_br]
    split
    · exact hs
    · split
      · exact ihl (srt_br.mp hs).1
      · exact ihr (srt_br.mp hs).2.1
theorem sub_root {T : Tr} {k : Nat} (hs : Srt T) (h : k ∈ tl T) : ∃ l r, sub T k = .branch k l r := by
  induction T with
  | leaf u => simp [tl] at h
  | branch x l r ihl ihr =>
    rw [sub_br]
    by_cases c : k = x
    · rw [if_pos c, c]; exact ⟨l, r, rfl⟩
    · rw [if_neg c]
      by_cases c2 : k < x
      · rw [if_pos c2]; exact ihl (srt_br.mp hs).1 (mem_l hs h c2)
      · rw [if_neg c2]; exact ihr (srt_br.mp hs).2.1 (mem_r hs h (by omega))
theorem sub_len {T : Tr} {k : Nat} : tz (sub T k) ≤ tz T := by
  induction T with
  | leaf u => exact Nat.le_refl _
  | branch x l r ihl ihr =>
    rw [sub_br]
    split
    · exact Nat.le_refl _
    · split
      · exact Nat.le_trans ihl (by simp [tz]; omega)
      · exact Nat.le_trans ihr (by simp [tz]; omega)
/-- the keys below a key, as a row -/
theorem below_row {T : Tr} {k : Nat} (hs : Srt T) (h : k ∈ tl T) : (tl T).filter (fun x => decide (k ∈ way T x)) = tl (sub T k) := by
  induction T with
  | leaf u => simp [tl] at h
  | branch x l r ihl ihr =>
    obtain ⟨h1, h2, h3, h4⟩ := srt_br.mp hs
    have nil_of : ∀ {L : List Nat} {p : Nat → Bool}, (∀ y ∈ L, p y = false) → L.filter p = [] := by
      intro L p hp
      rw [List.filter_eq_nil_iff]
      intro y hy
      rw [hp y hy]
      exact Bool.false_ne_true
    rw [tl_br, List.filter_append, sub_br]
    by_cases c : k = x
    · subst c
      rw [if_pos rfl, tl_br]
      have e1 : (tl l).filter (fun y => decide (k ∈ way (.branch k l r) y)) = tl l := by
        rw [List.filter_eq_self]
        intro y hy
        have := h3 y hy
        rw [way_br, if_neg (by omega), if_pos this]
        simp
      have e2 : (k :: tl r).filter (fun y => decide (k ∈ way (.branch k l r) y)) = k :: tl r := by
        rw [List.filter_eq_self]
        intro y hy
        rcases List.mem_cons.mp hy with rfl | hy
        · rw [way_br, if_pos rfl]; simp
        · have := h4 y hy
          rw [way_br, if_neg (by omega), if_neg (by omega)]
          simp
      rw [e1, e2]
    · rw [if_neg c]
      by_cases c2 : k < x
      · rw [if_pos c2]
        have hk := mem_l hs h c2
        have e1 : (tl l).filter (fun y => decide (k ∈ way (.branch x l r) y)) = (tl l).filter (fun y => decide (k ∈ way l y)) := by
          apply List.filter_congr
          intro y hy
          have := h3 y hy
          rw [way_br, if_neg (by omega), if_pos this]
          simp [c]
        have e2 : (x :: tl r).filter (fun y => decide (k ∈ way (.branch x l r) y)) = [] := by
          apply nil_of
          intro y hy
          apply decide_eq_false
          intro z
          rcases List.mem_cons.mp hy with rfl | hy
          · rw [way_br, if_pos rfl] at z
            exact c (List.mem_singleton.mp z)
          · have := h4 y hy
            rw [way_br, if_neg (by omega), if_neg (by omega)] at z
            rcases List.mem_cons.mp z with z | z
            · exact c z
            · have := h4 k (way_mem z); omega
        rw [e1, e2, List.append_nil, ihl h1 hk]
      · rw [if_neg c2]
        have hk := mem_r hs h (by omega)
        have e1 : (tl l).filter (fun y => decide (k ∈ way (.branch x l r) y)) = [] := by
          apply nil_of
          intro y hy
          apply decide_eq_false
          intro z
          have := h3 y hy
          rw [way_br, if_neg (by omega), if_pos this] at z
          rcases List.mem_cons.mp z with z | z
          · exact c z
          · have := h3 k (way_mem z); omega
        have e2 : (x :: tl r).filter (fun y => decide (k ∈ way (.branch x l r) y)) = (tl r).filter (fun y => decide (k ∈ way r y)) := by
          rw [List.filter_cons_of_neg]
          · apply List.filter_congr
            intro y hy
            have := h4 y hy
            rw [way_br, if_neg (by omega), if_neg (by omega)]
            simp [c]
          · rw [way_br, if_pos rfl]
            simp [c]
        rw [e1, e2, List.nil_append, ihr h2 hk]
/-! put -/
theorem ins_br {x k : Nat} {l r : Tr} : ins (.branch x l r) k = if k < x then .branch x (ins l k) r else .branch x l (ins r k) := rfl
theorem ins_mem {T : Tr} {k x : Nat} : x ∈ tl (ins T k) ↔ x = k ∨ x ∈ tl T := by
  induction T with
  | leaf u => simp [ins, tl]
  | branch y l r ihl ihr =>
    rw [ins_br]
    split
    · rw [mem_br, mem_br, ihl]
      constructor
      · rintro ((h | h) | h | h)
        · exact Or.inl h
        · exact Or.inr (Or.inl h)
        · exact Or.inr (Or.inr (Or.inl h))
        · exact Or.inr (Or.inr (Or.inr h))
      · rintro (h | h | h | h)
        · exact Or.inl (Or.inl h)
        · exact Or.inl (Or.inr h)
        · exact Or.inr (Or.inl h)
        · exact Or.inr (Or.inr h)
    · rw [mem_br, mem_br, ihr]
      constructor
      · rintro (h | h | h | h)
        · exact Or.inr (Or.inl h)
        · exact Or.inr (Or.inr (Or.inl h))
        · exact Or.inl h
        · exact Or.inr (Or.inr (Or.inr h))
      · rintro (h | h | h | h)
        · exact Or.inr (Or.inr (Or.inl h))
        · exact Or.inl h
        · exact Or.inr (Or.inl h)
        · exact Or.inr (Or.inr (Or.inr h))
theorem ins_srt {T : Tr} {k : Nat} (hs : Srt T) (h : k ∉ tl T) : Srt (ins T k) := by
  induction T with
  | leaf u => simp [ins, Srt, tl]
  | branch y l r ihl ihr =>
    obtain ⟨h1, h2, h3, h4⟩ := srt_br.mp hs
    rw [mem_br] at h
    rw [ins_br]
    split
    · rename_i c
      refine srt_br.mpr ⟨ihl h1 (fun z => h (Or.inl z)), h2, fun x hx => ?_, h4⟩
      rcases ins_mem.mp hx with rfl | hx
      · exact c
      · exact h3 x hx
    · rename_i c
      refine srt_br.mpr ⟨h1, ihr h2 (fun z => h (Or.inr (Or.inr z))), h3, fun x hx => ?_⟩
      rcases ins_mem.mp hx with rfl | hx
      · have : x ≠ y := fun e => h (Or.inr (Or.inl e))
        omega
      · exact h4 x hx
theorem ins_tz (T : Tr) (k : Nat) : tz (ins T k) = tz T + 1 := by
  induction T with
  | leaf u => rfl
  | branch y l r ihl ihr =>
    rw [ins_br]
    split
    · simp only [tz, ihl]; omega
    · simp only [tz, ihr]; omega
theorem ins_way {T : Tr} {k : Nat} (h : k ∉ tl T) : way (ins T k) k = way T k ++ [k] := by
  induction T with
  | leaf u => simp [ins, way]
  | branch y l r ihl ihr =>
    rw [mem_br] at h
    have hy : ¬ k = y := fun e => h (Or.inr (Or.inl e))
    rw [ins_br, way_br, if_neg hy]
    split
    · rename_i c
      rw [way_br, if_neg hy, if_pos c, ihl (fun z => h (Or.inl z))]
      rfl
    · rename_i c
      rw [way_br, if_neg hy, if_neg c, ihr (fun z => h (Or.inr (Or.inr z)))]
      rfl
theorem ins_ro {T : Tr} {k : Nat} (h : T ≠ .leaf ()) : ro (ins T k) = ro T := by
  cases T with
  | leaf u => exact absurd rfl h
  | branch y l r => rw [ins_br]; split <;> rfl
theorem ins_ne (T : Tr) (k : Nat) : ins T k ≠ .leaf () := by
  cases T with
  | leaf u => simp [ins]
  | branch y l r => rw [ins_br]; split <;> simp
/-! built flat -/
theorem fl_tz : ∀ (f : Nat) (w : Nat → Nat) (lo n : Nat), n ≤ f → tz (fl f w lo n) = n := by
  intro f
  induction f with
  | zero => intro w lo n h; obtain rfl : n = 0 := by omega
            rfl
  | succ f ih =>
    intro w lo n h
    unfold fl
    split
    · rename_i c; rw [c]; rfl
    · simp only [tz]
      rw [ih _ _ _ (by omega), ih _ _ _ (by omega)]
      omega
theorem fl_tl : ∀ (f : Nat) (w : Nat → Nat) (lo n : Nat), n ≤ f → tl (fl f w lo n) = (List.range n).map (fun i => w (lo + i)) := by
  intro f
  induction f with
  | zero => intro w lo n h; obtain rfl : n = 0 := by omega
            rfl
  | succ f ih =>
    intro w lo n h
    unfold fl
    split
    · rename_i c; rw [c]; rfl
    · rename_i c
      rw [tl_br, ih _ _ _ (by omega), ih _ _ _ (by omega)]
      have hn : n = (n - 1) / 2 + ((n - 1 - (n - 1) / 2) + 1) := by omega
      generalize (n - 1) / 2 = m at hn ⊢
      generalize n - 1 - m = p at hn ⊢
      subst hn
      rw [List.range_add, List.map_append, List.map_map, List.range_succ_eq_map, List.map_cons, List.map_map]
      congr 1
      congr 1
      apply List.map_congr_left
      intro i hi
      simp only [Function.comp]
      congr 1
      omega
theorem map_getD (l : List Nat) : (List.range l.length).map (fun i => l.getD i 0) = l := by
  apply List.ext_getElem?
  intro i
  rw [List.getElem?_map]
  by_cases h : i < l.length
  · rw [List.getElem?_range h, List.getElem?_eq_getElem h]
    simp [List.getD, h]
  · rw [List.getElem?_eq_none (by simpa using h), List.getElem?_eq_none (by omega)]
    rfl
theorem flat_tl (T : Tr) : tl (flat T) = tl T := by
  unfold flat
  rw [fl_tl _ _ _ _ (Nat.le_refl _), ← tz_len]
  simp only [Nat.zero_add]
  exact map_getD _
theorem flat_tz (T : Tr) : tz (flat T) = tz T := fl_tz _ _ _ _ (Nat.le_refl _)
theorem srt_tl {S T : Tr} (h : tl S = tl T) (hT : Srt T) : Srt S := by unfold Srt; rw [h]; exact hT
theorem tz_tl {S T : Tr} (h : tl S = tl T) : tz S = tz T := by rw [← tz_len, ← tz_len, h]
theorem flat_srt {T : Tr} (h : Srt T) : Srt (flat T) := srt_tl (flat_tl T) h
theorem gr_br {x k : Nat} {l r S : Tr} : gr (.branch x l r) k S = if k = x then S else if k < x then .branch x (gr l k S) r else .branch x l (gr r k S) := rfl
theorem gr_tl {T S : Tr} {k : Nat} (hs : Srt T) (h : k ∈ tl T) (e : tl S = tl (sub T k)) : tl (gr T k S) = tl T := by
  induction T with
  | leaf u => simp [tl] at h
  | branch x l r ihl ihr =>
    rw [sub_br] at e
    rw [gr_br]
    by_cases c : k = x
    · rw [if_pos c] at e ⊢
      exact e
    · rw [if_neg c] at e ⊢
      by_cases c2 : k < x
      · rw [if_pos c2] at e ⊢
        rw [tl_br, tl_br, ihl (srt_br.mp hs).1 (mem_l hs h c2) e]
      · rw [if_neg c2] at e ⊢
        rw [tl_br, tl_br, ihr (srt_br.mp hs).2.1 (mem_r hs h (by omega)) e]
/-! taken -/
theorem tmin_mem {T : Tr} {d : Nat} : tmin T d = d ∧ T = .leaf () ∨ tmin T d ∈ tl T := by
  induction T generalizing d with
  | leaf u => exact Or.inl ⟨rfl, rfl⟩
  | branch x l r ihl ihr =>
    right
    rw [mem_br]
    show tmin l x ∈ tl l ∨ tmin l x = x ∨ tmin l x ∈ tl r
    rcases ihl (d := x) with h | h
    · exact Or.inr (Or.inl h.1)
    · exact Or.inl h
theorem tmin_le {T : Tr} {d x : Nat} (hs : Srt T) (h : x ∈ tl T) : tmin T d ≤ x := by
  induction T generalizing d with
  | leaf u => simp [tl] at h
  | branch y l r ihl ihr =>
    obtain ⟨h1, h2, h3, h4⟩ := srt_br.mp hs
    show tmin l y ≤ x
    have hy : tmin l y ≤ y := by
      rcases tmin_mem (T := l) (d := y) with q | q
      · omega
      · exact Nat.le_of_lt (h3 _ q)
    rcases mem_br.mp h with h | h | h
    · exact ihl h1 h
    · omega
    · have := h4 x h; omega
theorem del_br {x k : Nat} {l r : Tr} : del (.branch x l r) k = if k = x then (match ro l, ro r with
      | none, _ => r
      | some _, none => l
      | some _, some y => .branch (tmin r y) l (del r (tmin r y))) else if k < x then .branch x (del l k) r else .branch x l (del r k) := rfl
theorem del_tl {T : Tr} {k : Nat} (hs : Srt T) : tl (del T k) = (tl T).filter (fun x => decide (x ≠ k)) := by
  induction T generalizing k with
  | leaf u => rfl
  | branch x l r ihl ihr =>
    obtain ⟨h1, h2, h3, h4⟩ := srt_br.mp hs
    have all_of : ∀ {L : List Nat}, (∀ y ∈ L, y ≠ k) → L.filter (fun x => decide (x ≠ k)) = L := by
      intro L hL
      rw [List.filter_eq_self]
      intro y hy
      exact decide_eq_true (hL y hy)
    rw [del_br, tl_br, List.filter_append]
    by_cases c : k = x
    · subst c
      rw [if_pos rfl, all_of (L := tl l) (fun y hy => Nat.ne_of_lt (h3 y hy)), List.filter_cons_of_neg (by simp), all_of (L := tl r) (fun y hy => Nat.ne_of_gt (h4 y hy))]
      cases hl : ro l with
      | none =>
        rw [ro_none] at hl
        subst hl
        rfl
      | some a =>
        cases hr : ro r with
        | none =>
          rw [ro_none] at hr
          subst hr
          simp [tl]
        | some y =>
          show tl (.branch (tmin r y) l (del r (tmin r y))) = _
          rw [tl_br, ihr h2]
          congr 1
          have hm : tmin r y ∈ tl r := by
            rcases tmin_mem (T := r) (d := y) with q | q
            · have q2 := q.2
              subst q2
              cases hr
            · exact q
          have hle : ∀ z ∈ tl r, tmin r y ≤ z := fun z hz => tmin_le h2 hz
          have hsr : (tl r).Pairwise (· < ·) := h2
          revert hm hle hsr
          generalize tl r = L
          generalize tmin r y = w
          intro hm hle hsr
          cases L with
          | nil => cases hm
          | cons z L =>
            have hz : w = z := by
              rcases List.mem_cons.mp hm with q | q
              · exact q
              · have q1 := (List.pairwise_cons.mp hsr).1 w q
                have q2 := hle z List.mem_cons_self
                omega
            subst hz
            rw [List.filter_cons_of_neg (by simp)]
            congr 1
            rw [List.filter_eq_self]
            intro u hu
            have := (List.pairwise_cons.mp hsr).1 u hu
            exact decide_eq_true (by omega)
    · rw [if_neg c]
      by_cases c2 : k < x
      · rw [if_pos c2, tl_br, ihl h1, all_of (L := x :: tl r)]
        intro y hy
        rcases List.mem_cons.mp hy with rfl | hy
        · omega
        · have := h4 y hy; omega
      · rw [if_neg c2, tl_br, ihr h2, all_of (L := tl l) (fun y hy => by have := h3 y hy; omega), List.filter_cons_of_pos (by simp; omega)]
theorem del_mem {T : Tr} {k x : Nat} (hs : Srt T) : x ∈ tl (del T k) ↔ x ∈ tl T ∧ x ≠ k := by
  rw [del_tl hs, List.mem_filter]
  simp
theorem del_srt {T : Tr} {k : Nat} (hs : Srt T) : Srt (del T k) := by
  unfold Srt
  rw [del_tl hs]
  exact List.Pairwise.filter _ hs
theorem srt_nodup {T : Tr} (hs : Srt T) : (tl T).Nodup := List.Pairwise.imp (fun h => Nat.ne_of_lt h) hs
theorem del_tz {T : Tr} {k : Nat} (hs : Srt T) (h : k ∈ tl T) : tz (del T k) + 1 = tz T := by
  rw [← tz_len, ← tz_len, del_tl hs]
  have hn := srt_nodup hs
  revert h hn
  generalize tl T = L
  intro h hn
  induction L with
  | nil => cases h
  | cons a L ih =>
    obtain ⟨n1, n2⟩ := List.nodup_cons.mp hn
    by_cases c : a = k
    · subst c
      rw [List.filter_cons_of_neg (by simp)]
      have : L.filter (fun x => decide (x ≠ a)) = L := by
        rw [List.filter_eq_self]
        intro y hy
        exact decide_eq_true (fun e => n1 (e ▸ hy))
      rw [this]
      rfl
    · rw [List.filter_cons_of_pos (by simpa using c)]
      rcases List.mem_cons.mp h with h | h
      · exact absurd h.symm c
      · have := ih h n2
        simp only [List.length_cons]
        omega
