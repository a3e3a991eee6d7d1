/-! MODEL 5: a part built anew -/
set_option maxRecDepth 100000
def prt : Tr → Nat → Int → Int
  | .leaf _, _, on => on
  | .branch x l r, q, on => if q = x then on else if q < x then prt l q (x : Int) else prt r q (x : Int)
theorem prt_br {x q : Nat} {l r : Tr} {on : Int} : prt (.branch x l r) q on = if q = x then on else if q < x then prt l q (x : Int) else prt r q (x : Int) := rfl
theorem prt_root {T : Tr} {q : Nat} (hs : Srt T) (hq : q ∈ tl T) : ∀ {on : Int}, (rk T = (q : Int) ∧ prt T q on = on) ∨ (rk T ≠ (q : Int) ∧ ∃ p, p ∈ tl T ∧ prt T q on = (p : Int)) := by
  induction T with
  | leaf u => simp [tl] at hq
  | branch x l r ihl ihr =>
    intro on
    rw [prt_br]
    by_cases c : q = x
    · left; rw [if_pos c, c]; exact ⟨rfl, rfl⟩
    · right
      refine ⟨fun z => c (by simp only [rk] at z; omega), ?_⟩
      rw [if_neg c]
      by_cases c2 : q < x
      · rw [if_pos c2]
        rcases ihl (srt_br.mp hs).1 (mem_l hs hq c2) (on := (x : Int)) with h | ⟨-, p, h1, h2⟩
        · exact ⟨x, mem_br.mpr (Or.inr (Or.inl rfl)), h.2⟩
        · exact ⟨p, mem_br.mpr (Or.inl h1), h2⟩
      · rw [if_neg c2]
        rcases ihr (srt_br.mp hs).2.1 (mem_r hs hq (by omega)) (on := (x : Int)) with h | ⟨-, p, h1, h2⟩
        · exact ⟨x, mem_br.mpr (Or.inr (Or.inl rfl)), h.2⟩
        · exact ⟨p, mem_br.mpr (Or.inr (Or.inr h1)), h2⟩
theorem rk_mem {T : Tr} : rk T = -1 ∨ ∃ x, x ∈ tl T ∧ rk T = (x : Int) := by
  cases T with
  | leaf u => exact Or.inl rfl
  | branch x l r => exact Or.inr ⟨x, mem_br.mpr (Or.inr (Or.inl rfl)), rfl⟩
theorem prt_spec {σ : MS} {t : Int} {T : Tr} {q : Nat} (hs : Srt T) (hq : q ∈ tl T) : ∀ {on : Int}, RepT σ t on T → σ.2 4 (100 * t + (q : Int)) = prt T q on ∧ ((rk T = (q : Int) ∧ prt T q on = on) ∨ ∃ p : Nat, p ∈ tl T ∧ prt T q on = (p : Int) ∧ p ∉ tl (sub T q) ∧ ((q < p ∧ σ.2 2 (100 * t + (p : Int)) = (q : Int)) ∨ (p < q ∧ σ.2 3 (100 * t + (p : Int)) = (q : Int) ∧ σ.2 2 (100 * t + (p : Int)) ≠ (q : Int)))) := by
  induction T with
  | leaf u => simp [tl] at hq
  | branch x l r ihl ihr =>
    intro on hR
    obtain ⟨h1, h2, h3, h4⟩ := srt_br.mp hs
    obtain ⟨r1, r2, r3, r4, r5⟩ := hR
    rw [prt_br, sub_br]
    by_cases c : q = x
    · rw [if_pos c, c]
      exact ⟨r1, Or.inl ⟨rfl, rfl⟩⟩
    · rw [if_neg c, if_neg c]
      by_cases c2 : q < x
      · rw [if_pos c2, if_pos c2]
        obtain ⟨a1, a2⟩ := ihl h1 (mem_l hs hq c2) r4
        refine ⟨a1, Or.inr ?_⟩
        rcases a2 with ⟨b1, b2⟩ | ⟨p, p1, p2, p3, p4⟩
        · refine ⟨x, mem_br.mpr (Or.inr (Or.inl rfl)), b2, fun z => ?_, Or.inl ⟨c2, by rw [r2]; exact b1⟩⟩
          have := h3 x (sub_mem z)
          omega
        · exact ⟨p, mem_br.mpr (Or.inl p1), p2, p3, p4⟩
      · rw [if_neg c2, if_neg c2]
        have hqr := mem_r hs hq (by omega)
        obtain ⟨a1, a2⟩ := ihr h2 hqr r5
        refine ⟨a1, Or.inr ?_⟩
        rcases a2 with ⟨b1, b2⟩ | ⟨p, p1, p2, p3, p4⟩
        · refine ⟨x, mem_br.mpr (Or.inr (Or.inl rfl)), b2, fun z => ?_, Or.inr ⟨by omega, by rw [r3]; exact b1, ?_⟩⟩
          · have := h4 x (sub_mem z)
            omega
          · rw [r2]
            rcases rk_mem (T := l) with e | ⟨y, y1, y2⟩
            · omega
            · have := h3 y y1; omega
        · exact ⟨p, mem_br.mpr (Or.inr (Or.inr p1)), p2, p3, p4⟩
theorem gr_rk {T S : Tr} {q : Nat} (hs : Srt T) (hq : q ∈ tl T) : rk (gr T q S) = if rk T = (q : Int) then rk S else rk T := by
  cases T with
  | leaf u => simp [tl] at hq
  | branch x l r =>
    rw [gr_br]
    by_cases c : q = x
    · rw [if_pos c, if_pos (by simp only [rk]; omega)]
    · have c3 : ¬ rk (.branch x l r : Tr) = (q : Int) := by
        simp only [rk]
        omega
      rw [if_neg c, if_neg c3]
      split <;> rfl
theorem rep_gr {σ σ' : MS} {t : Int} {q : Nat} {S T : Tr} (hs : Srt T) (hq : q ∈ tl T) : ∀ {on : Int}, RepT σ t on T → (∀ y ∈ tl T, (y : Int) ≠ on) → RepT σ' t (prt T q on) S →
    (∀ x ∈ tl T, x ∉ tl (sub T q) → σ'.2 4 (100 * t + (x : Int)) = σ.2 4 (100 * t + (x : Int)) ∧ σ'.2 2 (100 * t + (x : Int)) = (if (x : Int) = prt T q on ∧ q < x then rk S else σ.2 2 (100 * t + (x : Int))) ∧ σ'.2 3 (100 * t + (x : Int)) = (if (x : Int) = prt T q on ∧ x < q then rk S else σ.2 3 (100 * t + (x : Int)))) →
    RepT σ' t on (gr T q S) := by
  induction T with
  | leaf u => simp [tl] at hq
  | branch x l r ihl ihr =>
    intro on hR hon hS hx
    obtain ⟨h1, h2, h3, h4⟩ := srt_br.mp hs
    obtain ⟨r1, r2, r3, r4, r5⟩ := hR
    rw [gr_br]
    rw [prt_br] at hS hx
    rw [sub_br] at hx
    by_cases c : q = x
    · rw [if_pos c] at hS ⊢
      exact hS
    · rw [if_neg c] at hS hx ⊢
      rw [if_neg c] at hx
      by_cases c2 : q < x
      · rw [if_pos c2] at hS hx ⊢
        rw [if_pos c2] at hx
        have hql := mem_l hs hq c2
        have nx : x ∉ tl (sub l q) := fun z => by have := h3 x (sub_mem z); omega
        obtain ⟨x1, x2, x3⟩ := hx x (mem_br.mpr (Or.inr (Or.inl rfl))) nx
        rw [if_neg (by omega)] at x3
        have hp := prt_root h1 hql (on := (x : Int))
        refine ⟨by rw [x1]; exact r1, ?_, by rw [x3]; exact r3, ihl h1 hql r4 (fun y hy => by have := h3 y hy; omega) hS (fun y hy ny => hx y (mem_br.mpr (Or.inl hy)) ny), r5.cg (fun y hy => ?_)⟩
        · rw [x2, gr_rk h1 hql]
          rcases hp with ⟨p1, p2⟩ | ⟨p1, p, p2, p3⟩
          · rw [if_pos ⟨p2.symm, c2⟩, if_pos p1]
          · have := h3 p p2
            rw [if_neg (by omega), if_neg p1]
            exact r2
        · have hy4 := h4 y hy
          obtain ⟨y1, y2, y3⟩ := hx y (mem_br.mpr (Or.inr (Or.inr hy))) (fun z => by have := h3 y (sub_mem z); omega)
          have ne : ¬ (y : Int) = prt l q (x : Int) := by
            rcases hp with ⟨p1, p2⟩ | ⟨p1, p, p2, p3⟩
            · omega
            · have := h3 p p2; omega
          rw [if_neg (fun z => ne z.1)] at y2 y3
          exact ⟨y2, y3, y1⟩
      · rw [if_neg c2] at hS hx ⊢
        rw [if_neg c2] at hx
        have hqr := mem_r hs hq (by omega)
        have nx : x ∉ tl (sub r q) := fun z => by have := h4 x (sub_mem z); omega
        obtain ⟨x1, x2, x3⟩ := hx x (mem_br.mpr (Or.inr (Or.inl rfl))) nx
        rw [if_neg (by omega)] at x2
        have hp := prt_root h2 hqr (on := (x : Int))
        refine ⟨by rw [x1]; exact r1, by rw [x2]; exact r2, ?_, r4.cg (fun y hy => ?_), ihr h2 hqr r5 (fun y hy => by have := h4 y hy; omega) hS (fun y hy ny => hx y (mem_br.mpr (Or.inr (Or.inr hy))) ny)⟩
        · rw [x3, gr_rk h2 hqr]
          rcases hp with ⟨p1, p2⟩ | ⟨p1, p, p2, p3⟩
          · rw [if_pos ⟨p2.symm, by omega⟩, if_pos p1]
          · have := h4 p p2
            rw [if_neg (by omega), if_neg p1]
            exact r3
        · have hy3 := h3 y hy
          obtain ⟨y1, y2, y3⟩ := hx y (mem_br.mpr (Or.inl hy)) (fun z => by have := h4 y (sub_mem z); omega)
          have ne : ¬ (y : Int) = prt r q (x : Int) := by
            rcases hp with ⟨p1, p2⟩ | ⟨p1, p, p2, p3⟩
            · omega
            · have := h4 p p2; omega
          rw [if_neg (fun z => ne z.1)] at y2 y3
          exact ⟨y2, y3, y1⟩
/-! spans -/
abbrev Sp : Type := Nat × Nat × Int
def ixs (Q : List Sp) : List Nat := Q.flatMap (fun q => List.range' q.1 q.2.1)
def QOK (σ : MS) (n : Nat) (Q : List Sp) : Prop := ∀ (i : Nat) (q : Sp), Q[i]? = some q → σ.2 25 ((n : Int) + (i : Int)) = (q.1 : Int) ∧ σ.2 26 ((n : Int) + (i : Int)) = (q.1 : Int) + (q.2.1 : Int) - 1 ∧ σ.2 27 ((n : Int) + (i : Int)) = q.2.2 ∧ 1 ≤ q.2.1 ∧ -1 ≤ q.2.2 ∧ q.2.2 < 100
/-- but for the links of some keys and the spans all is as it was -/
def Agr (t : Int) (P : Nat → Prop) (σ σ' : MS) : Prop := σ'.1 = σ.1 ∧ ∀ f i, ¬ (f = 25 ∨ f = 26 ∨ f = 27) → ¬ ((f = 2 ∨ f = 3 ∨ f = 4) ∧ ∃ k : Nat, P k ∧ i = 100 * t + (k : Int)) → σ'.2 f i = σ.2 f i
theorem Agr.mono {t : Int} {P P' : Nat → Prop} {σ σ' : MS} (h : Agr t P σ σ') (hp : ∀ k, P k → P' k) : Agr t P' σ σ' := ⟨h.1, fun f i e1 e2 => h.2 f i e1 (fun z => e2 ⟨z.1, by obtain ⟨k, k1, k2⟩ := z.2; exact ⟨k, hp k k1, k2⟩⟩)⟩
theorem Agr.trans {t : Int} {P : Nat → Prop} {a b c : MS} (h1 : Agr t P a b) (h2 : Agr t P b c) : Agr t P a c := ⟨h2.1.trans h1.1, fun f i e1 e2 => (h2.2 f i e1 e2).trans (h1.2 f i e1 e2)⟩
theorem Agr.s {t : Int} {P : Nat → Prop} {σ : MS} {f : Nat} {i v : Int} (h : f = 25 ∨ f = 26 ∨ f = 27) : Agr t P σ (setA σ f i v) := ⟨rfl, fun g j e1 _ => by
  rw [setA_2, if_neg]
  rintro ⟨rfl, -⟩
  exact e1 h⟩
theorem Agr.l {t : Int} {P : Nat → Prop} {σ : MS} {f : Nat} {v : Int} {k : Nat} (h : f = 2 ∨ f = 3 ∨ f = 4) (hk : P k) : Agr t P σ (setA σ f (100 * t + (k : Int)) v) := ⟨rfl, fun g j _ e2 => by
  rw [setA_2, if_neg]
  rintro ⟨rfl, rfl⟩
  exact e2 ⟨h, k, hk, rfl⟩⟩
theorem Agr.refl {t : Int} {P : Nat → Prop} {σ : MS} : Agr t P σ σ := ⟨rfl, fun _ _ _ _ => rfl⟩
theorem fl_eq : ∀ (f g : Nat) (w : Nat → Nat) (lo n : Nat), n ≤ f → n ≤ g → fl f w lo n = fl g w lo n := by
  intro f
  induction f with
  | zero =>
    intro g w lo n h1 h2
    obtain rfl : n = 0 := by omega
    cases g with
    | zero => rfl
    | succ g => simp [fl]
  | succ f ih =>
    intro g w lo n h1 h2
    cases g with
    | zero =>
      obtain rfl : n = 0 := by omega
      simp [fl]
    | succ g =>
      unfold fl
      split
      · rfl
      · rw [ih g w lo _ (by omega) (by omega), ih g w _ _ (by omega) (by omega)]
def fw (w : Nat → Nat) (lo n : Nat) : Tr := fl n w lo n
theorem fw_0 (w : Nat → Nat) (lo : Nat) : fw w lo 0 = .leaf () := rfl
theorem fw_s (w : Nat → Nat) (lo n : Nat) (h : 1 ≤ n) : fw w lo n = .branch (w (lo + (n - 1) / 2)) (fw w lo ((n - 1) / 2)) (fw w (lo + (n - 1) / 2 + 1) (n - 1 - (n - 1) / 2)) := by
  obtain ⟨m, rfl⟩ : ∃ m, n = m + 1 := ⟨n - 1, by omega⟩
  unfold fw
  conv => lhs; unfold fl
  rw [if_neg (by omega), fl_eq m ((m + 1 - 1) / 2) w lo _ (by omega) (Nat.le_refl _), fl_eq m (m + 1 - 1 - (m + 1 - 1) / 2) w _ _ (by omega) (Nat.le_refl _)]
theorem fw_rk (w : Nat → Nat) (lo n : Nat) (h : 1 ≤ n) : rk (fw w lo n) = (w (lo + (n - 1) / 2) : Int) := by
  rw [fw_s w lo n h]
  rfl
theorem fw_tl (w : Nat → Nat) (lo n : Nat) : tl (fw w lo n) = (List.range n).map (fun i => w (lo + i)) := fl_tl n w lo n (Nat.le_refl _)
theorem fw_mem {w : Nat → Nat} {lo n k : Nat} (h : k ∈ tl (fw w lo n)) : ∃ i, lo ≤ i ∧ i < lo + n ∧ k = w i := by
  rw [fw_tl, List.mem_map] at h
  obtain ⟨i, h1, h2⟩ := h
  have := List.mem_range.mp h1
  exact ⟨lo + i, by omega, by omega, h2.symm⟩
/-- one span's work in the rows -/
def lnk (σ : MS) (t : Int) (key on l r : Int) : MS := setA (setA (setA σ 4 (100 * t + key) on) 2 (100 * t + key) l) 3 (100 * t + key) r
def psh (σ : MS) (s lo hi on : Int) : MS := setA (setA (setA σ 25 s lo) 26 s hi) 27 s on
theorem psh_25 {σ : MS} {s lo hi on : Int} (i : Int) : (psh σ s lo hi on).2 25 i = if i = s then lo else σ.2 25 i := by
  unfold psh
  rw [setA_2o (by decide), setA_2o (by decide), setA_2]
  simp
theorem psh_26 {σ : MS} {s lo hi on : Int} (i : Int) : (psh σ s lo hi on).2 26 i = if i = s then hi else σ.2 26 i := by
  unfold psh
  rw [setA_2o (by decide), setA_2, setA_2o (by decide)]
  simp
theorem psh_27 {σ : MS} {s lo hi on : Int} (i : Int) : (psh σ s lo hi on).2 27 i = if i = s then on else σ.2 27 i := by
  unfold psh
  rw [setA_2, setA_2o (by decide), setA_2o (by decide)]
  simp
theorem psh_o {σ : MS} {s lo hi on : Int} {f : Nat} (i : Int) (h : f ≠ 25 ∧ f ≠ 26 ∧ f ≠ 27) : (psh σ s lo hi on).2 f i = σ.2 f i := by
  unfold psh
  rw [setA_2o h.2.2, setA_2o h.2.1, setA_2o h.1]
theorem lnk_o {σ : MS} {t key on l r : Int} {f : Nat} (i : Int) (h : f ≠ 2 ∧ f ≠ 3 ∧ f ≠ 4) : (lnk σ t key on l r).2 f i = σ.2 f i := by
  unfold lnk
  rw [setA_2o h.2.1, setA_2o h.1, setA_2o h.2.2]
theorem Agr.psh {t : Int} {P : Nat → Prop} {σ : MS} {s lo hi on : Int} : Agr t P σ (psh σ s lo hi on) := ((Agr.s (by decide)).trans (Agr.s (by decide))).trans (Agr.s (by decide))
theorem Agr.lnk {t : Int} {P : Nat → Prop} {σ : MS} {key : Nat} {on l r : Int} (hk : P key) : Agr t P σ (lnk σ t (key : Int) on l r) := ((Agr.l (by decide) hk).trans (Agr.l (by decide) hk)).trans (Agr.l (by decide) hk)
theorem QOK.lnk {σ : MS} {n : Nat} {Q : List Sp} {t key on l r : Int} (h : QOK σ n Q) : QOK (lnk σ t key on l r) n Q := fun i q hq => by
  rw [lnk_o _ (by decide), lnk_o _ (by decide), lnk_o _ (by decide)]
  exact h i q hq
theorem QOK.tail {σ : MS} {n : Nat} {q : Sp} {Q : List Sp} (h : QOK σ n (q :: Q)) : QOK σ (n + 1) Q := fun i q hq => by
  have := h (i + 1) q hq
  have e : ((n + 1 : Nat) : Int) + (i : Int) = (n : Int) + ((i + 1 : Nat) : Int) := by omega
  rw [e]
  exact this
theorem QOK.psh {σ : MS} {n : Nat} {Q : List Sp} {s : Int} {lo len : Nat} {hi on : Int} (h : QOK σ n Q) (hs : s = (n : Int) + (Q.length : Int)) (hl : 1 ≤ len) (hh : hi = (lo : Int) + (len : Int) - 1) (ho : -1 ≤ on ∧ on < 100) : QOK (psh σ s (lo : Int) hi on) n (Q ++ [(lo, len, on)]) := by
  intro i q hq
  rw [psh_25, psh_26, psh_27]
  by_cases c : i < Q.length
  · rw [List.getElem?_append_left c] at hq
    rw [if_neg (by omega), if_neg (by omega), if_neg (by omega)]
    exact h i q hq
  · rw [List.getElem?_append_right (by omega)] at hq
    have hz : i - Q.length < 1 := (List.getElem?_eq_some_iff.mp hq).1
    rw [show i - Q.length = 0 by omega] at hq
    cases hq
    rw [if_pos (by omega), if_pos (by omega), if_pos (by omega)]
    exact ⟨rfl, hh, rfl, hl, ho.1, ho.2⟩
theorem ixs_cons (q : Sp) (Q : List Sp) : ixs (q :: Q) = List.range' q.1 q.2.1 ++ ixs Q := rfl
theorem ixs_app (Q Q' : List Sp) : ixs (Q ++ Q') = ixs Q ++ ixs Q' := by unfold ixs; rw [List.flatMap_append]
theorem ixs_one (q : Sp) : ixs [q] = List.range' q.1 q.2.1 := by simp [ixs]
theorem mem_ixs {Q : List Sp} {i : Nat} : i ∈ ixs Q ↔ ∃ q, q ∈ Q ∧ q.1 ≤ i ∧ i < q.1 + q.2.1 := by
  unfold ixs
  rw [List.mem_flatMap]
  constructor
  · rintro ⟨q, h1, h2⟩
    rw [List.mem_range'_1] at h2
    exact ⟨q, h1, h2.1, h2.2⟩
  · rintro ⟨q, h1, h2, h3⟩
    exact ⟨q, h1, List.mem_range'_1.mpr ⟨h2, h3⟩⟩
theorem rng_split (lo n : Nat) (h : 1 ≤ n) : List.range' lo n = List.range' lo ((n - 1) / 2) ++ (lo + (n - 1) / 2) :: List.range' (lo + (n - 1) / 2 + 1) (n - 1 - (n - 1) / 2) := by
  have e : n = (n - 1) / 2 + ((n - 1 - (n - 1) / 2) + 1) := by omega
  generalize (n - 1) / 2 = m at e ⊢
  generalize n - 1 - m = p at e ⊢
  subst e
  rw [← List.range'_append_1, List.range'_succ]
theorem ixs_step (lo n : Nat) (on : Int) (Q Q2 : List Sp) (h : 1 ≤ n) (h2 : ixs Q2 = List.range' lo ((n - 1) / 2) ++ List.range' (lo + (n - 1) / 2 + 1) (n - 1 - (n - 1) / 2)) : (ixs ((lo, n, on) :: Q)).Perm ((lo + (n - 1) / 2) :: ixs (Q ++ Q2)) := by
  rw [ixs_cons, ixs_app, h2]
  show (List.range' lo n ++ ixs Q).Perm _
  rw [rng_split lo n h]
  generalize List.range' lo ((n - 1) / 2) = A
  generalize List.range' (lo + (n - 1) / 2 + 1) (n - 1 - (n - 1) / 2) = B
  generalize lo + (n - 1) / 2 = c
  generalize ixs Q = C
  refine List.Perm.trans (List.Perm.append_right C List.perm_middle) ?_
  exact List.Perm.cons c List.perm_append_comm
theorem m_bfs {Γ : GX} {ad : Nat → Nat} {t : Int} {w : Nat → Nat} {N : Nat} {top first on0 : Int} (hok : AdOk ad) (ht : t = 0 ∨ t = 1) (hN : N ≤ 40) (hw : ∀ i j, i < N → j < N → w i = w j → i = j) (hw1 : ∀ i, i < N → w i < 100) (h : Ok0 cX2_build yX2_build.cls none (rmL 3) Γ) :
    ∀ (m : Nat) (Q : List Sp) (σ : MS) (n : Nat) (s5 s6 : Int) (a7 a8 a9 a10 : Option Value), (ixs Q).length = m → n + m ≤ 40 → s5 = (n : Int) + (Q.length : Int) → s6 = (n : Int) → QOK σ n Q → (ixs Q).Nodup → (∀ i ∈ ixs Q, i < N) → (∀ i : Nat, i < N → σ.2 24 (i : Int) = (w i : Int)) → MR σ →
      (∀ (σ' : MS) (b5 b6 b7 b8 b9 b10 : Option Value), MR σ' → (∀ q ∈ Q, RepT σ' t q.2.2 (fw w q.1 q.2.1)) → Agr t (fun k => ∃ i, i ∈ ixs Q ∧ k = w i) σ σ' → V Γ 0 0 (mH ad σ') 308 [some (.ref (ad 50)), some (.int (iI t)), some (.int (iI top)), some (.int (iI first)), some (.int (iI on0)), b5, b6, b7, b8, b9, b10] []) →
      V Γ 0 0 (mH ad σ) 88 [some (.ref (ad 50)), some (.int (iI t)), some (.int (iI top)), some (.int (iI first)), some (.int (iI on0)), some (.int (iI s5)), some (.int (iI s6)), a7, a8, a9, a10] [] := by
  intro m
  induction m with
  | zero =>
    intro Q σ n s5 s6 a7 a8 a9 a10 hm hnm h5 h6 hQ hnd hix hrow hmr K
    have hQ0 : Q = [] := by
      cases Q with
      | nil => rfl
      | cons q Q =>
        have := (hQ 0 q rfl).2.2.2.1
        rw [ixs_cons, List.length_append, List.length_range'] at hm
        omega
    subst hQ0
    simp only [List.length_nil] at h5
    refine v_iload (n' := 90) h dX2_build_88 rfl rfl ?_
    refine v_iload (n' := 92) h dX2_build_90 rfl rfl ?_
    refine v_icmp_ge (n' := 95) (tgt := 308) h dX2_build_92 rfl rfl (by omega) (by omega) (fun c92 => ?_) (fun c92 => ?_)
    · exact K σ _ _ _ _ _ _ hmr (fun q hq => by cases hq) Agr.refl
    · exact absurd (show s5 ≤ s6 by omega) c92
  | succ m ih =>
    intro Q σ n s5 s6 a7 a8 a9 a10 hm hnm h5 h6 hQ hnd hix hrow hmr K
    cases Q with
    | nil => simp [ixs] at hm
    | cons q Q =>
      obtain ⟨lo, len, on⟩ := q
      obtain ⟨q1, q2, q3, q4, q5, q6⟩ := hQ 0 _ rfl
      have e0 : (n : Int) + ((0 : Nat) : Int) = s6 := by omega
      rw [e0] at q1 q2 q3
      dsimp only at q1 q2 q3 q4 q5 q6
      simp only [List.length_cons] at h5
      have hin : ∀ i, lo ≤ i → i < lo + len → i < N := fun i i1 i2 => hix i (mem_ixs.mpr ⟨(lo, len, on), List.mem_cons_self, i1, i2⟩)
      have hmidN := hin (lo + (len - 1) / 2) (by omega) (by omega)
      have hlenQ : Q.length ≤ (ixs Q).length := by
        have hall : ∀ q ∈ Q, 1 ≤ q.2.1 := by
          intro q hq
          obtain ⟨i, hi⟩ := List.getElem?_of_mem hq
          exact (hQ (i + 1) q hi).2.2.2.1
        clear hm hnm h5 hQ hnd hix K
        revert hall
        induction Q with
        | nil => intro _; simp [ixs]
        | cons q Q ih2 =>
          intro hall
          have a1 := hall q List.mem_cons_self
          have a2 := ih2 (fun q hq => hall q (List.mem_cons_of_mem _ hq))
          rw [ixs_cons, List.length_append, List.length_range', List.length_cons]
          omega
      have hixl : (ixs Q).length + len = m + 1 := by
        rw [ixs_cons, List.length_append, List.length_range'] at hm
        dsimp only at hm
        omega
      have hlo := hin lo (by omega) (by omega)
      have hhi := hin (lo + len - 1) (by omega) (by omega)
      have emid : ((lo : Int) + ((lo : Int) + (len : Int) - 1)) / 2 = ((lo + (len - 1) / 2 : Nat) : Int) := by omega
      have hkey := hrow (lo + (len - 1) / 2) hmidN
      have hk100 := hw1 _ hmidN
      -- the rest, for each of the four ways
      have fin : ∀ (Q2 : List Sp) (σ2 : MS) (l r : Int) (s : Int) (b7 b8 b9 b10 : Option Value), ixs Q2 = List.range' lo ((len - 1) / 2) ++ List.range' (lo + (len - 1) / 2 + 1) (len - 1 - (len - 1) / 2) → s = (n : Int) + 1 + (Q.length : Int) + (Q2.length : Int) → l = rk (fw w lo ((len - 1) / 2)) → r = rk (fw w (lo + (len - 1) / 2 + 1) (len - 1 - (len - 1) / 2)) →
          QOK σ2 (n + 1) (Q ++ Q2) → (∀ f i, f ≠ 25 → f ≠ 26 → f ≠ 27 → σ2.2 f i = (lnk σ t (w (lo + (len - 1) / 2) : Int) on l r).2 f i) → σ2.1 = σ.1 → MR σ2 → (∀ q ∈ Q2, (q = (lo, (len - 1) / 2, (w (lo + (len - 1) / 2) : Int)) ∨ q = (lo + (len - 1) / 2 + 1, len - 1 - (len - 1) / 2, (w (lo + (len - 1) / 2) : Int)))) → (1 ≤ (len - 1) / 2 → (lo, (len - 1) / 2, (w (lo + (len - 1) / 2) : Int)) ∈ Q2) → (1 ≤ len - 1 - (len - 1) / 2 → (lo + (len - 1) / 2 + 1, len - 1 - (len - 1) / 2, (w (lo + (len - 1) / 2) : Int)) ∈ Q2) →
          V Γ 0 0 (mH ad σ2) 88 [some (.ref (ad 50)), some (.int (iI t)), some (.int (iI top)), some (.int (iI first)), some (.int (iI on0)), some (.int (iI s)), some (.int (iI (s6 + 1))), b7, b8, b9, b10] [] := by
        intro Q2 σ2 l r s b7 b8 b9 b10 hQ2 hs hl hr hQOK hag h1 hmr2 hQ2m hL hR
        have hperm := ixs_step lo len on Q Q2 q4 hQ2
        have hnd2 := (hperm.nodup_iff).mp hnd
        obtain ⟨nd1, nd2⟩ := List.nodup_cons.mp hnd2
        have hlen2 := hperm.length_eq
        rw [hm, List.length_cons] at hlen2
        refine ih (Q ++ Q2) σ2 (n + 1) s (s6 + 1) b7 b8 b9 b10 (by omega) (by omega) (by rw [List.length_append]; omega) (by omega) hQOK nd2 (fun i hi => hix i (hperm.mem_iff.mpr (List.mem_cons_of_mem _ hi))) (fun i hi => by rw [hag 24 _ (by decide) (by decide) (by decide), lnk_o _ (by decide)]; exact hrow i hi) hmr2 ?_
        intro σ' c5 c6 c7 c8 c9 c10 hmr' hRep hAgr
        have notin : ∀ k : Nat, (∃ i, i ∈ ixs (Q ++ Q2) ∧ k = w i) → k ≠ w (lo + (len - 1) / 2) := by
          rintro k ⟨i, i1, rfl⟩ e
          have := hw _ _ (hix i (hperm.mem_iff.mpr (List.mem_cons_of_mem _ i1))) hmidN e
          exact nd1 (this ▸ i1)
        have key : ∀ f, (f = 2 ∨ f = 3 ∨ f = 4) → σ'.2 f (100 * t + (w (lo + (len - 1) / 2) : Int)) = (lnk σ t (w (lo + (len - 1) / 2) : Int) on l r).2 f (100 * t + (w (lo + (len - 1) / 2) : Int)) := by
          intro f hf
          rw [hAgr.2 f _ (by omega) (fun z => by
            obtain ⟨-, k, k1, k2⟩ := z
            exact notin k k1 (by omega))]
          exact hag f _ (by omega) (by omega) (by omega)
        refine K σ' c5 c6 c7 c8 c9 c10 hmr' (fun q hq => ?_) ?_
        · rcases List.mem_cons.mp hq with rfl | hq
          · rw [fw_s w lo len q4]
            refine ⟨?_, ?_, ?_, ?_, ?_⟩
            · rw [key 4 (by decide)]; unfold lnk; rw [setA_2o (by decide), setA_2o (by decide), setA_2s]
            · rw [key 2 (by decide)]; unfold lnk; rw [setA_2o (by decide), setA_2s]; exact hl
            · rw [key 3 (by decide)]; unfold lnk; rw [setA_2s]; exact hr
            · by_cases c : 1 ≤ (len - 1) / 2
              · exact hRep _ (List.mem_append_right _ (hL c))
              · have e : (len - 1) / 2 = 0 := by omega
                show RepT σ' t _ (fw w lo ((len - 1) / 2))
                rw [e, fw_0]; trivial
            · by_cases c : 1 ≤ len - 1 - (len - 1) / 2
              · exact hRep _ (List.mem_append_right _ (hR c))
              · have e : len - 1 - (len - 1) / 2 = 0 := by omega
                show RepT σ' t _ (fw w (lo + (len - 1) / 2 + 1) (len - 1 - (len - 1) / 2))
                rw [e, fw_0]; trivial
          · exact hRep q (List.mem_append_left _ hq)
        · refine ⟨hAgr.1.trans h1, fun f i e1 e2 => ?_⟩
          rw [hAgr.2 f i e1 (fun z => e2 ⟨z.1, by
            obtain ⟨k, ⟨j, j1, j2⟩, k2⟩ := z.2
            exact ⟨k, ⟨j, hperm.mem_iff.mpr (List.mem_cons_of_mem _ j1), j2⟩, k2⟩⟩), hag f i (by omega) (by omega) (by omega)]
          have ag : Agr t (fun k => k = w (lo + (len - 1) / 2)) σ (lnk σ t (w (lo + (len - 1) / 2) : Int) on l r) := Agr.lnk rfl
          refine ag.2 f i e1 (fun z => e2 ⟨z.1, ?_⟩)
          obtain ⟨k, k1, k2⟩ := z.2
          exact ⟨k, ⟨_, hperm.mem_iff.mpr List.mem_cons_self, k1⟩, k2⟩
      have eL : 1 ≤ (len - 1) / 2 → σ.2 24 (((lo : Int) + ((lo + (len - 1) / 2 : Nat) : Int) - 1) / 2) = rk (fw w lo ((len - 1) / 2)) := by
        intro c
        rw [fw_rk w lo _ c, ← hrow _ (hin _ (by omega) (by omega))]
        exact congrArg (σ.2 24) (by omega)
      have eR : 1 ≤ len - 1 - (len - 1) / 2 → σ.2 24 ((((lo + (len - 1) / 2 : Nat) : Int) + 1 + ((lo : Int) + (len : Int) - 1)) / 2) = rk (fw w (lo + (len - 1) / 2 + 1) (len - 1 - (len - 1) / 2)) := by
        intro c
        rw [fw_rk w _ _ c, ← hrow _ (hin _ (by omega) (by omega))]
        exact congrArg (σ.2 24) (by omega)
      have eM : (((lo + (len - 1) / 2 : Nat) : Int) + 1) = ((lo + (len - 1) / 2 + 1 : Nat) : Int) := by omega
      refine v_iload (n' := 90) h dX2_build_88 rfl rfl ?_
      refine v_iload (n' := 92) h dX2_build_90 rfl rfl ?_
      refine v_icmp_ge (n' := 95) (tgt := 308) h dX2_build_92 rfl rfl (by omega) (by omega) (fun c92 => ?_) (fun c92 => ?_)
      · exact absurd c92 (by omega)
      · refine v_aload_n (n' := 96) h dX2_build_95 rfl rfl ?_
        refine vm_geta (n' := 99) h 25 (by decide) q962 dX2_build_96 rfl ?_
        refine v_iload (n' := 101) h dX2_build_99 rfl rfl ?_
        refine vm_iald (n' := 102) h hok hmr 25 41 (by decide) dX2_build_101 rfl (by omega) (by decide) (fun g101 => ?_)
        rw [q1]
        refine v_istore7 (n' := 104) h dX2_build_102 rfl rfl ?_
        refine v_aload_n (n' := 105) h dX2_build_104 rfl rfl ?_
        refine vm_geta (n' := 108) h 26 (by decide) q963 dX2_build_105 rfl ?_
        refine v_iload (n' := 110) h dX2_build_108 rfl rfl ?_
        refine vm_iald (n' := 111) h hok hmr 26 41 (by decide) dX2_build_110 rfl (by omega) (by decide) (fun g110 => ?_)
        rw [q2]
        refine v_istore8 (n' := 113) h dX2_build_111 rfl rfl ?_
        refine v_iload (n' := 115) h dX2_build_113 rfl rfl ?_
        refine v_iload (n' := 117) h dX2_build_115 rfl rfl ?_
        refine v_iadd (n' := 118) h dX2_build_117 rfl ?_
        refine v_iconst (n' := 119) h dX2_build_118 rfl ?_
        refine v_idiv (n' := 120) h dX2_build_119 rfl (by omega) (by omega) ?_
        rw [emid]
        refine v_istore9 (n' := 122) h dX2_build_120 rfl rfl ?_
        refine v_aload_n (n' := 123) h dX2_build_122 rfl rfl ?_
        refine vm_geta (n' := 126) h 24 (by decide) q961 dX2_build_123 rfl ?_
        refine v_iload (n' := 128) h dX2_build_126 rfl rfl ?_
        refine vm_iald (n' := 129) h hok hmr 24 40 (by decide) dX2_build_128 rfl (by omega) (by decide) (fun g128 => ?_)
        rw [hkey]
        refine v_istore10 (n' := 131) h dX2_build_129 rfl rfl ?_
        refine v_aload_n (n' := 132) h dX2_build_131 rfl rfl ?_
        refine vm_geta (n' := 135) h 4 (by decide) q941 dX2_build_132 rfl ?_
        refine v_bipush (n' := 137) h dX2_build_135 rfl (by decide) ?_
        refine v_iload_n (n' := 138) h dX2_build_137 rfl rfl ?_
        refine v_imul (n' := 139) h dX2_build_138 rfl ?_
        refine v_iload (n' := 141) h dX2_build_139 rfl rfl ?_
        refine v_iadd (n' := 142) h dX2_build_141 rfl ?_
        refine v_aload_n (n' := 143) h dX2_build_142 rfl rfl ?_
        refine vm_geta (n' := 146) h 27 (by decide) q964 dX2_build_143 rfl ?_
        refine v_iload (n' := 148) h dX2_build_146 rfl rfl ?_
        refine vm_iald (n' := 149) h hok hmr 27 41 (by decide) dX2_build_148 rfl (by omega) (by decide) (fun g148 => ?_)
        rw [q3]
        refine vm_iast (n' := 150) h hok hmr 4 200 (by decide) dX2_build_149 rfl (by omega) (by decide) (by omega) (fun m149 => ?_)
        refine v_aload_n (n' := 151) h dX2_build_150 rfl rfl ?_
        refine vm_geta (n' := 154) h 2 (by decide) q939 dX2_build_151 rfl ?_
        refine v_bipush (n' := 156) h dX2_build_154 rfl (by decide) ?_
        refine v_iload_n (n' := 157) h dX2_build_156 rfl rfl ?_
        refine v_imul (n' := 158) h dX2_build_157 rfl ?_
        refine v_iload (n' := 160) h dX2_build_158 rfl rfl ?_
        refine v_iadd (n' := 161) h dX2_build_160 rfl ?_
        refine v_iload (n' := 163) h dX2_build_161 rfl rfl ?_
        refine v_iload (n' := 165) h dX2_build_163 rfl rfl ?_
        refine v_icmp_ge (n' := 168) (tgt := 185) h dX2_build_165 rfl rfl (by omega) (by omega) (fun c165 => ?_) (fun c165 => ?_)
        · have cl : (len - 1) / 2 = 0 := by omega
          refine v_iconst (n' := 186) h dX2_build_185 rfl ?_
          refine vm_iast (n' := 187) h hok m149 2 200 (by decide) dX2_build_186 rfl (by omega) (by decide) (by omega) (fun m186 => ?_)
          refine v_aload_n (n' := 188) h dX2_build_187 rfl rfl ?_
          refine vm_geta (n' := 191) h 3 (by decide) q940 dX2_build_188 rfl ?_
          refine v_bipush (n' := 193) h dX2_build_191 rfl (by decide) ?_
          refine v_iload_n (n' := 194) h dX2_build_193 rfl rfl ?_
          refine v_imul (n' := 195) h dX2_build_194 rfl ?_
          refine v_iload (n' := 197) h dX2_build_195 rfl rfl ?_
          refine v_iadd (n' := 198) h dX2_build_197 rfl ?_
          refine v_iload (n' := 200) h dX2_build_198 rfl rfl ?_
          refine v_iload (n' := 202) h dX2_build_200 rfl rfl ?_
          refine v_icmp_ge (n' := 205) (tgt := 222) h dX2_build_202 rfl rfl (by omega) (by omega) (fun c202 => ?_) (fun c202 => ?_)
          · have cr : len - 1 - (len - 1) / 2 = 0 := by omega
            refine v_iconst (n' := 223) h dX2_build_222 rfl ?_
            refine vm_iast (n' := 224) h hok m186 3 200 (by decide) dX2_build_223 rfl (by omega) (by decide) (by omega) (fun m223 => ?_)
            refine v_iload (n' := 226) h dX2_build_224 rfl rfl ?_
            refine v_iload (n' := 228) h dX2_build_226 rfl rfl ?_
            refine v_icmp_ge (n' := 231) (tgt := 263) h dX2_build_228 rfl rfl (by omega) (by omega) (fun c228 => ?_) (fun c228 => ?_)
            · refine v_iload (n' := 265) h dX2_build_263 rfl rfl ?_
              refine v_iload (n' := 267) h dX2_build_265 rfl rfl ?_
              refine v_icmp_ge (n' := 270) (tgt := 302) h dX2_build_267 rfl rfl (by omega) (by omega) (fun c267 => ?_) (fun c267 => ?_)
              · refine v_iinc6 (n' := 305) h dX2_build_302 rfl rfl ?_
                refine v_goto (tgt := 88) h dX2_build_305 rfl ?_
                exact fin [] _ (-1) (-1) _ _ _ _ _ (by rw [cr, cl]; rfl) (by simp only [List.length_nil]; omega) (by rw [cl, fw_0]; rfl) (by rw [cr, fw_0]; rfl) (by rw [List.append_nil]; exact hQ.tail.lnk) (fun f i _ _ _ => rfl) rfl m223 (fun q hq => by cases hq) (fun z => by omega) (fun z => by omega)
              · exact absurd (show (lo : Int) + (len : Int) - 1 ≤ ((lo + (len - 1) / 2 : Nat) : Int) by omega) c267
            · exact absurd (show ((lo + (len - 1) / 2 : Nat) : Int) ≤ (lo : Int) by omega) c228
          · have cr : 1 ≤ len - 1 - (len - 1) / 2 := by omega
            refine v_aload_n (n' := 206) h dX2_build_205 rfl rfl ?_
            refine vm_geta (n' := 209) h 24 (by decide) q961 dX2_build_206 rfl ?_
            refine v_iload (n' := 211) h dX2_build_209 rfl rfl ?_
            refine v_iconst (n' := 212) h dX2_build_211 rfl ?_
            refine v_iadd (n' := 213) h dX2_build_212 rfl ?_
            refine v_iload (n' := 215) h dX2_build_213 rfl rfl ?_
            refine v_iadd (n' := 216) h dX2_build_215 rfl ?_
            refine v_iconst (n' := 217) h dX2_build_216 rfl ?_
            refine v_idiv (n' := 218) h dX2_build_217 rfl (by omega) (by omega) ?_
            refine vm_iald (n' := 219) h hok m186 24 40 (by decide) dX2_build_218 rfl (by omega) (by decide) (fun g218 => ?_)
            rw [setA_2o (by decide), setA_2o (by decide), eR cr] at g218 ⊢
            refine v_goto (tgt := 223) h dX2_build_219 rfl ?_
            refine vm_iast (n' := 224) h hok m186 3 200 (by decide) dX2_build_223 rfl (by omega) (by decide) (by omega) (fun m223 => ?_)
            refine v_iload (n' := 226) h dX2_build_224 rfl rfl ?_
            refine v_iload (n' := 228) h dX2_build_226 rfl rfl ?_
            refine v_icmp_ge (n' := 231) (tgt := 263) h dX2_build_228 rfl rfl (by omega) (by omega) (fun c228 => ?_) (fun c228 => ?_)
            · refine v_iload (n' := 265) h dX2_build_263 rfl rfl ?_
              refine v_iload (n' := 267) h dX2_build_265 rfl rfl ?_
              refine v_icmp_ge (n' := 270) (tgt := 302) h dX2_build_267 rfl rfl (by omega) (by omega) (fun c267 => ?_) (fun c267 => ?_)
              · exact absurd c267 (by omega)
              · refine v_aload_n (n' := 271) h dX2_build_270 rfl rfl ?_
                refine vm_geta (n' := 274) h 25 (by decide) q962 dX2_build_271 rfl ?_
                refine v_iload (n' := 276) h dX2_build_274 rfl rfl ?_
                refine v_iload (n' := 278) h dX2_build_276 rfl rfl ?_
                refine v_iconst (n' := 279) h dX2_build_278 rfl ?_
                refine v_iadd (n' := 280) h dX2_build_279 rfl ?_
                rw [eM]
                refine vm_iast (n' := 281) h hok m223 25 41 (by decide) dX2_build_280 rfl (by omega) (by decide) (by omega) (fun m280 => ?_)
                refine v_aload_n (n' := 282) h dX2_build_281 rfl rfl ?_
                refine vm_geta (n' := 285) h 26 (by decide) q963 dX2_build_282 rfl ?_
                refine v_iload (n' := 287) h dX2_build_285 rfl rfl ?_
                refine v_iload (n' := 289) h dX2_build_287 rfl rfl ?_
                refine vm_iast (n' := 290) h hok m280 26 41 (by decide) dX2_build_289 rfl (by omega) (by decide) (by omega) (fun m289 => ?_)
                refine v_aload_n (n' := 291) h dX2_build_290 rfl rfl ?_
                refine vm_geta (n' := 294) h 27 (by decide) q964 dX2_build_291 rfl ?_
                refine v_iload (n' := 296) h dX2_build_294 rfl rfl ?_
                refine v_iload (n' := 298) h dX2_build_296 rfl rfl ?_
                refine vm_iast (n' := 299) h hok m289 27 41 (by decide) dX2_build_298 rfl (by omega) (by decide) (by omega) (fun m298 => ?_)
                refine v_iinc5 (n' := 302) h dX2_build_299 rfl rfl ?_
                refine v_iinc6 (n' := 305) h dX2_build_302 rfl rfl ?_
                refine v_goto (tgt := 88) h dX2_build_305 rfl ?_
                exact fin [(lo + (len - 1) / 2 + 1, len - 1 - (len - 1) / 2, (w (lo + (len - 1) / 2) : Int))] _ (-1) _ _ _ _ _ _ (by rw [ixs_one, cl]; rfl) (by simp only [List.length_cons, List.length_nil]; omega) (by rw [cl, fw_0]; rfl) rfl (QOK.psh hQ.tail.lnk (by omega) cr (by omega) (by omega)) (fun f i a b c => psh_o i ⟨a, b, c⟩) rfl m298 (fun q hq => Or.inr (List.mem_singleton.mp hq)) (fun z => by omega) (fun _ => List.mem_singleton.mpr rfl)
            · exact absurd (show ((lo + (len - 1) / 2 : Nat) : Int) ≤ (lo : Int) by omega) c228
        · have cl : 1 ≤ (len - 1) / 2 := by omega
          refine v_aload_n (n' := 169) h dX2_build_168 rfl rfl ?_
          refine vm_geta (n' := 172) h 24 (by decide) q961 dX2_build_169 rfl ?_
          refine v_iload (n' := 174) h dX2_build_172 rfl rfl ?_
          refine v_iload (n' := 176) h dX2_build_174 rfl rfl ?_
          refine v_iadd (n' := 177) h dX2_build_176 rfl ?_
          refine v_iconst (n' := 178) h dX2_build_177 rfl ?_
          refine v_isub (n' := 179) h dX2_build_178 rfl ?_
          refine v_iconst (n' := 180) h dX2_build_179 rfl ?_
          refine v_idiv (n' := 181) h dX2_build_180 rfl (by omega) (by omega) ?_
          refine vm_iald (n' := 182) h hok m149 24 40 (by decide) dX2_build_181 rfl (by omega) (by decide) (fun g181 => ?_)
          rw [setA_2o (by decide), eL cl] at g181 ⊢
          refine v_goto (tgt := 186) h dX2_build_182 rfl ?_
          refine vm_iast (n' := 187) h hok m149 2 200 (by decide) dX2_build_186 rfl (by omega) (by decide) (by omega) (fun m186 => ?_)
          refine v_aload_n (n' := 188) h dX2_build_187 rfl rfl ?_
          refine vm_geta (n' := 191) h 3 (by decide) q940 dX2_build_188 rfl ?_
          refine v_bipush (n' := 193) h dX2_build_191 rfl (by decide) ?_
          refine v_iload_n (n' := 194) h dX2_build_193 rfl rfl ?_
          refine v_imul (n' := 195) h dX2_build_194 rfl ?_
          refine v_iload (n' := 197) h dX2_build_195 rfl rfl ?_
          refine v_iadd (n' := 198) h dX2_build_197 rfl ?_
          refine v_iload (n' := 200) h dX2_build_198 rfl rfl ?_
          refine v_iload (n' := 202) h dX2_build_200 rfl rfl ?_
          refine v_icmp_ge (n' := 205) (tgt := 222) h dX2_build_202 rfl rfl (by omega) (by omega) (fun c202 => ?_) (fun c202 => ?_)
          · have cr : len - 1 - (len - 1) / 2 = 0 := by omega
            refine v_iconst (n' := 223) h dX2_build_222 rfl ?_
            refine vm_iast (n' := 224) h hok m186 3 200 (by decide) dX2_build_223 rfl (by omega) (by decide) (by omega) (fun m223 => ?_)
            refine v_iload (n' := 226) h dX2_build_224 rfl rfl ?_
            refine v_iload (n' := 228) h dX2_build_226 rfl rfl ?_
            refine v_icmp_ge (n' := 231) (tgt := 263) h dX2_build_228 rfl rfl (by omega) (by omega) (fun c228 => ?_) (fun c228 => ?_)
            · exact absurd c228 (by omega)
            · refine v_aload_n (n' := 232) h dX2_build_231 rfl rfl ?_
              refine vm_geta (n' := 235) h 25 (by decide) q962 dX2_build_232 rfl ?_
              refine v_iload (n' := 237) h dX2_build_235 rfl rfl ?_
              refine v_iload (n' := 239) h dX2_build_237 rfl rfl ?_
              refine vm_iast (n' := 240) h hok m223 25 41 (by decide) dX2_build_239 rfl (by omega) (by decide) (by omega) (fun m239 => ?_)
              refine v_aload_n (n' := 241) h dX2_build_240 rfl rfl ?_
              refine vm_geta (n' := 244) h 26 (by decide) q963 dX2_build_241 rfl ?_
              refine v_iload (n' := 246) h dX2_build_244 rfl rfl ?_
              refine v_iload (n' := 248) h dX2_build_246 rfl rfl ?_
              refine v_iconst (n' := 249) h dX2_build_248 rfl ?_
              refine v_isub (n' := 250) h dX2_build_249 rfl ?_
              refine vm_iast (n' := 251) h hok m239 26 41 (by decide) dX2_build_250 rfl (by omega) (by decide) (by omega) (fun m250 => ?_)
              refine v_aload_n (n' := 252) h dX2_build_251 rfl rfl ?_
              refine vm_geta (n' := 255) h 27 (by decide) q964 dX2_build_252 rfl ?_
              refine v_iload (n' := 257) h dX2_build_255 rfl rfl ?_
              refine v_iload (n' := 259) h dX2_build_257 rfl rfl ?_
              refine vm_iast (n' := 260) h hok m250 27 41 (by decide) dX2_build_259 rfl (by omega) (by decide) (by omega) (fun m259 => ?_)
              refine v_iinc5 (n' := 263) h dX2_build_260 rfl rfl ?_
              refine v_iload (n' := 265) h dX2_build_263 rfl rfl ?_
              refine v_iload (n' := 267) h dX2_build_265 rfl rfl ?_
              refine v_icmp_ge (n' := 270) (tgt := 302) h dX2_build_267 rfl rfl (by omega) (by omega) (fun c267 => ?_) (fun c267 => ?_)
              · refine v_iinc6 (n' := 305) h dX2_build_302 rfl rfl ?_
                refine v_goto (tgt := 88) h dX2_build_305 rfl ?_
                exact fin [(lo, (len - 1) / 2, (w (lo + (len - 1) / 2) : Int))] _ _ (-1) _ _ _ _ _ (by rw [ixs_one, cr]; simp) (by simp only [List.length_cons, List.length_nil]; omega) rfl (by rw [cr, fw_0]; rfl) (QOK.psh hQ.tail.lnk (by omega) cl (by omega) (by omega)) (fun f i a b c => psh_o i ⟨a, b, c⟩) rfl m259 (fun q hq => Or.inl (List.mem_singleton.mp hq)) (fun _ => List.mem_singleton.mpr rfl) (fun z => by omega)
              · exact absurd (show (lo : Int) + (len : Int) - 1 ≤ ((lo + (len - 1) / 2 : Nat) : Int) by omega) c267
          · have cr : 1 ≤ len - 1 - (len - 1) / 2 := by omega
            refine v_aload_n (n' := 206) h dX2_build_205 rfl rfl ?_
            refine vm_geta (n' := 209) h 24 (by decide) q961 dX2_build_206 rfl ?_
            refine v_iload (n' := 211) h dX2_build_209 rfl rfl ?_
            refine v_iconst (n' := 212) h dX2_build_211 rfl ?_
            refine v_iadd (n' := 213) h dX2_build_212 rfl ?_
            refine v_iload (n' := 215) h dX2_build_213 rfl rfl ?_
            refine v_iadd (n' := 216) h dX2_build_215 rfl ?_
            refine v_iconst (n' := 217) h dX2_build_216 rfl ?_
            refine v_idiv (n' := 218) h dX2_build_217 rfl (by omega) (by omega) ?_
            refine vm_iald (n' := 219) h hok m186 24 40 (by decide) dX2_build_218 rfl (by omega) (by decide) (fun g218 => ?_)
            rw [setA_2o (by decide), setA_2o (by decide), eR cr] at g218 ⊢
            refine v_goto (tgt := 223) h dX2_build_219 rfl ?_
            refine vm_iast (n' := 224) h hok m186 3 200 (by decide) dX2_build_223 rfl (by omega) (by decide) (by omega) (fun m223 => ?_)
            refine v_iload (n' := 226) h dX2_build_224 rfl rfl ?_
            refine v_iload (n' := 228) h dX2_build_226 rfl rfl ?_
            refine v_icmp_ge (n' := 231) (tgt := 263) h dX2_build_228 rfl rfl (by omega) (by omega) (fun c228 => ?_) (fun c228 => ?_)
            · exact absurd c228 (by omega)
            · refine v_aload_n (n' := 232) h dX2_build_231 rfl rfl ?_
              refine vm_geta (n' := 235) h 25 (by decide) q962 dX2_build_232 rfl ?_
              refine v_iload (n' := 237) h dX2_build_235 rfl rfl ?_
              refine v_iload (n' := 239) h dX2_build_237 rfl rfl ?_
              refine vm_iast (n' := 240) h hok m223 25 41 (by decide) dX2_build_239 rfl (by omega) (by decide) (by omega) (fun m239 => ?_)
              refine v_aload_n (n' := 241) h dX2_build_240 rfl rfl ?_
              refine vm_geta (n' := 244) h 26 (by decide) q963 dX2_build_241 rfl ?_
              refine v_iload (n' := 246) h dX2_build_244 rfl rfl ?_
              refine v_iload (n' := 248) h dX2_build_246 rfl rfl ?_
              refine v_iconst (n' := 249) h dX2_build_248 rfl ?_
              refine v_isub (n' := 250) h dX2_build_249 rfl ?_
              refine vm_iast (n' := 251) h hok m239 26 41 (by decide) dX2_build_250 rfl (by omega) (by decide) (by omega) (fun m250 => ?_)
              refine v_aload_n (n' := 252) h dX2_build_251 rfl rfl ?_
              refine vm_geta (n' := 255) h 27 (by decide) q964 dX2_build_252 rfl ?_
              refine v_iload (n' := 257) h dX2_build_255 rfl rfl ?_
              refine v_iload (n' := 259) h dX2_build_257 rfl rfl ?_
              refine vm_iast (n' := 260) h hok m250 27 41 (by decide) dX2_build_259 rfl (by omega) (by decide) (by omega) (fun m259 => ?_)
              refine v_iinc5 (n' := 263) h dX2_build_260 rfl rfl ?_
              refine v_iload (n' := 265) h dX2_build_263 rfl rfl ?_
              refine v_iload (n' := 267) h dX2_build_265 rfl rfl ?_
              refine v_icmp_ge (n' := 270) (tgt := 302) h dX2_build_267 rfl rfl (by omega) (by omega) (fun c267 => ?_) (fun c267 => ?_)
              · exact absurd c267 (by omega)
              · refine v_aload_n (n' := 271) h dX2_build_270 rfl rfl ?_
                refine vm_geta (n' := 274) h 25 (by decide) q962 dX2_build_271 rfl ?_
                refine v_iload (n' := 276) h dX2_build_274 rfl rfl ?_
                refine v_iload (n' := 278) h dX2_build_276 rfl rfl ?_
                refine v_iconst (n' := 279) h dX2_build_278 rfl ?_
                refine v_iadd (n' := 280) h dX2_build_279 rfl ?_
                rw [eM]
                refine vm_iast (n' := 281) h hok m259 25 41 (by decide) dX2_build_280 rfl (by omega) (by decide) (by omega) (fun m280 => ?_)
                refine v_aload_n (n' := 282) h dX2_build_281 rfl rfl ?_
                refine vm_geta (n' := 285) h 26 (by decide) q963 dX2_build_282 rfl ?_
                refine v_iload (n' := 287) h dX2_build_285 rfl rfl ?_
                refine v_iload (n' := 289) h dX2_build_287 rfl rfl ?_
                refine vm_iast (n' := 290) h hok m280 26 41 (by decide) dX2_build_289 rfl (by omega) (by decide) (by omega) (fun m289 => ?_)
                refine v_aload_n (n' := 291) h dX2_build_290 rfl rfl ?_
                refine vm_geta (n' := 294) h 27 (by decide) q964 dX2_build_291 rfl ?_
                refine v_iload (n' := 296) h dX2_build_294 rfl rfl ?_
                refine v_iload (n' := 298) h dX2_build_296 rfl rfl ?_
                refine vm_iast (n' := 299) h hok m289 27 41 (by decide) dX2_build_298 rfl (by omega) (by decide) (by omega) (fun m298 => ?_)
                refine v_iinc5 (n' := 302) h dX2_build_299 rfl rfl ?_
                refine v_iinc6 (n' := 305) h dX2_build_302 rfl rfl ?_
                refine v_goto (tgt := 88) h dX2_build_305 rfl ?_
                refine fin [(lo, (len - 1) / 2, (w (lo + (len - 1) / 2) : Int)), (lo + (len - 1) / 2 + 1, len - 1 - (len - 1) / 2, (w (lo + (len - 1) / 2) : Int))] _ _ _ _ _ _ _ _ (by rw [ixs_cons, ixs_one]) (by simp only [List.length_cons, List.length_nil]; omega) rfl rfl ?_ ?_ rfl m298 (fun q hq => by rcases List.mem_cons.mp hq with e | e; exact Or.inl e; exact Or.inr (List.mem_singleton.mp e)) (fun _ => List.mem_cons_self) (fun _ => List.mem_cons_of_mem _ (List.mem_singleton.mpr rfl))
                · have a1 := QOK.psh (s := s5) (lo := lo) (len := (len - 1) / 2) (hi := ((lo + (len - 1) / 2 : Nat) : Int) - 1) (on := (w (lo + (len - 1) / 2) : Int)) (hQ.tail.lnk (t := t) (key := (w (lo + (len - 1) / 2) : Int)) (on := on) (l := rk (fw w lo ((len - 1) / 2))) (r := rk (fw w (lo + (len - 1) / 2 + 1) (len - 1 - (len - 1) / 2)))) (by omega) cl (by omega) (by omega)
                  have a2 := QOK.psh (s := s5 + 1) (lo := lo + (len - 1) / 2 + 1) (len := len - 1 - (len - 1) / 2) (hi := (lo : Int) + (len : Int) - 1) (on := (w (lo + (len - 1) / 2) : Int)) a1 (by simp only [List.length_append, List.length_cons, List.length_nil]; omega) cr (by omega) (by omega)
                  rw [List.append_assoc] at a2
                  exact a2
                · intro f i a b c
                  exact (psh_o i ⟨a, b, c⟩).trans (psh_o i ⟨a, b, c⟩)
