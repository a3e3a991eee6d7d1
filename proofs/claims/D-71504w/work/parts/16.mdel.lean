/-! MODEL 7: a key taken -/
set_option maxRecDepth 100000
theorem sub_sub {T : Tr} {q y : Nat} (hs : Srt T) (hy : y ∈ tl (sub T q)) : sub T y = sub (sub T q) y := by
  induction T with
  | leaf u => rfl
  | branch x l r ihl ihr =>
    obtain ⟨h1, h2, h3, h4⟩ := srt_br.mp hs
    rw [sub_br (k := q)] at hy ⊢
    by_cases c : q = x
    · rw [if_pos c]
    · rw [if_neg c] at hy ⊢
      by_cases c2 : q < x
      · rw [if_pos c2] at hy ⊢
        have hyx := h3 y (sub_mem hy)
        rw [sub_br, if_neg (by omega), if_pos hyx]
        exact ihl h1 hy
      · rw [if_neg c2] at hy ⊢
        have hyx := h4 y (sub_mem hy)
        rw [sub_br, if_neg (by omega), if_neg (by omega)]
        exact ihr h2 hy
theorem prt_sub {T : Tr} {q y : Nat} (hs : Srt T) (hy : y ∈ tl (sub T q)) : ∀ {on : Int}, prt T y on = prt (sub T q) y (prt T q on) := by
  induction T with
  | leaf u => simp [sub, tl] at hy
  | branch x l r ihl ihr =>
    intro on
    obtain ⟨h1, h2, h3, h4⟩ := srt_br.mp hs
    rw [sub_br (k := q)] at hy ⊢
    rw [prt_br (q := q)]
    by_cases c : q = x
    · rw [if_pos c, if_pos c]
    · rw [if_neg c] at hy ⊢
      rw [if_neg c]
      by_cases c2 : q < x
      · rw [if_pos c2] at hy ⊢
        rw [if_pos c2]
        have hyx := h3 y (sub_mem hy)
        rw [prt_br, if_neg (by omega), if_pos hyx]
        exact ihl h1 hy
      · rw [if_neg c2] at hy ⊢
        rw [if_neg c2]
        have hyx := h4 y (sub_mem hy)
        rw [prt_br, if_neg (by omega), if_neg (by omega)]
        exact ihr h2 hy
theorem rep_sub {σ : MS} {t : Int} {T : Tr} {q : Nat} (hs : Srt T) (hq : q ∈ tl T) : ∀ {on : Int}, RepT σ t on T → RepT σ t (prt T q on) (sub T q) := by
  induction T with
  | leaf u => simp [tl] at hq
  | branch x l r ihl ihr =>
    intro on hR
    rw [sub_br, prt_br]
    by_cases c : q = x
    · rw [if_pos c, if_pos c]; exact hR
    · rw [if_neg c, if_neg c]
      obtain ⟨-, -, -, r4, r5⟩ := hR
      by_cases c2 : q < x
      · rw [if_pos c2, if_pos c2]; exact ihl (srt_br.mp hs).1 (mem_l hs hq c2) r4
      · rw [if_neg c2, if_neg c2]; exact ihr (srt_br.mp hs).2.1 (mem_r hs hq (by omega)) r5
theorem RepT.on {σ σ' : MS} {t on on' : Int} {S : Tr} (hs : Srt S) (h : RepT σ t on S) (e : ∀ x ∈ tl S, σ'.2 2 (100 * t + (x : Int)) = σ.2 2 (100 * t + (x : Int)) ∧ σ'.2 3 (100 * t + (x : Int)) = σ.2 3 (100 * t + (x : Int)) ∧ σ'.2 4 (100 * t + (x : Int)) = if rk S = (x : Int) then on' else σ.2 4 (100 * t + (x : Int))) : RepT σ' t on' S := by
  cases S with
  | leaf u => trivial
  | branch x l r =>
    obtain ⟨h1, h2, h3, h4⟩ := srt_br.mp hs
    obtain ⟨r1, r2, r3, r4, r5⟩ := h
    obtain ⟨e1, e2, e3⟩ := e x (mem_br.mpr (Or.inr (Or.inl rfl)))
    refine ⟨by rw [e3]; exact if_pos rfl, by rw [e1]; exact r2, by rw [e2]; exact r3, r4.cg (fun y hy => ?_), r5.cg (fun y hy => ?_)⟩
    · obtain ⟨y1, y2, y3⟩ := e y (mem_br.mpr (Or.inl hy))
      have := h3 y hy
      rw [if_neg (by simp only [rk]; omega)] at y3
      exact ⟨y1, y2, y3⟩
    · obtain ⟨y1, y2, y3⟩ := e y (mem_br.mpr (Or.inr (Or.inr hy)))
      have := h4 y hy
      rw [if_neg (by simp only [rk]; omega)] at y3
      exact ⟨y1, y2, y3⟩
theorem del_gr {T : Tr} {k : Nat} (hs : Srt T) (hk : k ∈ tl T) : del T k = gr T k (del (sub T k) k) := by
  induction T with
  | leaf u => simp [tl] at hk
  | branch x l r ihl ihr =>
    rw [gr_br, sub_br, del_br]
    by_cases c : k = x
    · rw [if_pos c, if_pos c, if_pos c, del_br, if_pos c]
    · rw [if_neg c, if_neg c, if_neg c]
      by_cases c2 : k < x
      · rw [if_pos c2, if_pos c2, if_pos c2, ihl (srt_br.mp hs).1 (mem_l hs hk c2)]
      · rw [if_neg c2, if_neg c2, if_neg c2, ihr (srt_br.mp hs).2.1 (mem_r hs hk (by omega))]
theorem tmin_sub {T : Tr} {d : Nat} (hs : Srt T) (hne : T ≠ .leaf ()) : ∃ rr, sub T (tmin T d) = .branch (tmin T d) (.leaf ()) rr := by
  induction T generalizing d with
  | leaf u => exact absurd rfl hne
  | branch x l r ihl ihr =>
    obtain ⟨h1, h2, h3, h4⟩ := srt_br.mp hs
    show ∃ rr, sub (.branch x l r) (tmin l x) = .branch (tmin l x) (.leaf ()) rr
    by_cases e : l = .leaf ()
    · subst e
      exact ⟨r, by rw [sub_br]; simp [tmin]⟩
    · obtain ⟨rr, hrr⟩ := ihl (d := x) h1 e
      refine ⟨rr, ?_⟩
      have hm : tmin l x ∈ tl l := by
        rcases tmin_mem (T := l) (d := x) with q | q
        · exact absurd q.2 e
        · exact q
      have := h3 _ hm
      rw [sub_br, if_neg (by omega), if_pos this, hrr]
theorem tmin_mem' {T : Tr} {d : Nat} (hne : T ≠ .leaf ()) : tmin T d ∈ tl T := by
  rcases tmin_mem (T := T) (d := d) with q | q
  · exact absurd q.2 hne
  · exact q
theorem m_unhang (σ : MS) (t : Int) (ht : t = 0 ∨ t = 1) (k : Nat) (hk : k < 100) (h2 : -1 ≤ σ.2 2 (100 * t + (k : Int)) ∧ σ.2 2 (100 * t + (k : Int)) < 100) (h3 : -1 ≤ σ.2 3 (100 * t + (k : Int)) ∧ σ.2 3 (100 * t + (k : Int)) < 100) (h4 : -1 ≤ σ.2 4 (100 * t + (k : Int)) ∧ σ.2 4 (100 * t + (k : Int)) < 100) : MCv yX2_unhang cX2_unhang 4 none 3 [.int (iI t), .int (iI (k : Int))] σ (fun σ' => σ' = replS σ t (k : Int) (if σ.2 2 (100 * t + (k : Int)) = -1 then σ.2 3 (100 * t + (k : Int)) else σ.2 2 (100 * t + (k : Int)))) := by
  intro ad hok hm
  refine Ct.of (by decide) (EL.c1 rfl (EL.c1 rfl (EL.c1 rfl (EL.nn EL.n0)))) (fun Γ h hq hnm => ?_)
  refine v_aload_n (n' := 1) h dX2_unhang_0 rfl rfl ?_
  refine vm_geta (n' := 4) h 2 (by decide) q939 dX2_unhang_1 rfl ?_
  refine v_bipush (n' := 6) h dX2_unhang_4 rfl (by decide) ?_
  refine v_iload_n (n' := 7) h dX2_unhang_6 rfl rfl ?_
  refine v_imul (n' := 8) h dX2_unhang_7 rfl ?_
  refine v_iload_n (n' := 9) h dX2_unhang_8 rfl rfl ?_
  refine v_iadd (n' := 10) h dX2_unhang_9 rfl ?_
  refine vm_iald (n' := 11) h hok hm 2 200 (by decide) dX2_unhang_10 rfl (by omega) (by decide) (fun g10 => ?_)
  refine v_iconst (n' := 12) h dX2_unhang_11 rfl ?_
  refine v_icmp_ne (n' := 15) (tgt := 29) h dX2_unhang_12 rfl rfl (by omega) (by omega) (fun c12 => ?_) (fun c12 => ?_)
  · refine v_aload_n (n' := 30) h dX2_unhang_29 rfl rfl ?_
    refine vm_geta (n' := 33) h 2 (by decide) q939 dX2_unhang_30 rfl ?_
    refine v_bipush (n' := 35) h dX2_unhang_33 rfl (by decide) ?_
    refine v_iload_n (n' := 36) h dX2_unhang_35 rfl rfl ?_
    refine v_imul (n' := 37) h dX2_unhang_36 rfl ?_
    refine v_iload_n (n' := 38) h dX2_unhang_37 rfl rfl ?_
    refine v_iadd (n' := 39) h dX2_unhang_38 rfl ?_
    refine vm_iald (n' := 40) h hok hm 2 200 (by decide) dX2_unhang_39 rfl (by omega) (by decide) (fun g39 => ?_)
    refine v_istore3 (n' := 41) h dX2_unhang_40 rfl rfl ?_
    refine v_aload_n (n' := 42) h dX2_unhang_41 rfl rfl ?_
    refine v_iload_n (n' := 43) h dX2_unhang_42 rfl rfl ?_
    refine v_iload_n (n' := 44) h dX2_unhang_43 rfl rfl ?_
    refine v_iload_n (n' := 45) h dX2_unhang_44 rfl rfl ?_
    refine vm_callV (n' := 48) h hok hm (m_replace _ _ _ _ ht (by omega) (by omega) h4) rfl (lw_V q1200 q1202 qs58 q87 q1203) hdX2_replace (by decide) ⟨Nat.zero_le _, Nat.zero_le _⟩ (Nat.le_of_ble_eq_true rfl) dX2_unhang_45 rfl rfl (fun s45 p45 m45 => ?_)
    have p45 := p45.symm
    subst p45
    refine v_vret h hq dX2_unhang_48 (Nat.le_refl _) (Nat.le_refl _) (ret_mv m45 ?_)
    rw [if_neg c12]
  · refine v_aload_n (n' := 16) h dX2_unhang_15 rfl rfl ?_
    refine vm_geta (n' := 19) h 3 (by decide) q940 dX2_unhang_16 rfl ?_
    refine v_bipush (n' := 21) h dX2_unhang_19 rfl (by decide) ?_
    refine v_iload_n (n' := 22) h dX2_unhang_21 rfl rfl ?_
    refine v_imul (n' := 23) h dX2_unhang_22 rfl ?_
    refine v_iload_n (n' := 24) h dX2_unhang_23 rfl rfl ?_
    refine v_iadd (n' := 25) h dX2_unhang_24 rfl ?_
    refine vm_iald (n' := 26) h hok hm 3 200 (by decide) dX2_unhang_25 rfl (by omega) (by decide) (fun g25 => ?_)
    refine v_goto (tgt := 40) h dX2_unhang_26 rfl ?_
    refine v_istore3 (n' := 41) h dX2_unhang_40 rfl rfl ?_
    refine v_aload_n (n' := 42) h dX2_unhang_41 rfl rfl ?_
    refine v_iload_n (n' := 43) h dX2_unhang_42 rfl rfl ?_
    refine v_iload_n (n' := 44) h dX2_unhang_43 rfl rfl ?_
    refine v_iload_n (n' := 45) h dX2_unhang_44 rfl rfl ?_
    refine vm_callV (n' := 48) h hok hm (m_replace _ _ _ _ ht (by omega) (by omega) h4) rfl (lw_V q1200 q1202 qs58 q87 q1203) hdX2_replace (by decide) ⟨Nat.zero_le _, Nat.zero_le _⟩ (Nat.le_of_ble_eq_true rfl) dX2_unhang_45 rfl rfl (fun s45 p45 m45 => ?_)
    have p45 := p45.symm
    subst p45
    refine v_vret h hq dX2_unhang_48 (Nat.le_refl _) (Nat.le_refl _) (ret_mv m45 ?_)
    rw [if_pos c12]
/-- what a taking does to a tree's rows and numbers -/
def RemP (t : Int) (T : Tr) (k : Nat) (σ σ' : MS) : Prop := LR σ' t (del T k) ∧ σ'.2 7 t = (tz T : Int) - 1 ∧ σ'.2 8 t = σ.2 8 t ∧ σ'.2 10 t = σ.2 10 t ∧ σ'.2 11 t = σ.2 11 t ∧ σ'.1 = σ.1 ∧ Fr t σ σ'
theorem rem_LR {σ σ' : MS} {t : Int} {T S : Tr} {k : Nat} (hT : LR σ t T) (hk : k ∈ tl T) (hS : S = del (sub T k) k) (hSr : RepT σ' t (prt T k (-1)) S)
    (hx : ∀ x ∈ tl T, x ∉ tl (sub T k) → σ'.2 4 (100 * t + (x : Int)) = σ.2 4 (100 * t + (x : Int)) ∧ σ'.2 2 (100 * t + (x : Int)) = (if (x : Int) = prt T k (-1) ∧ k < x then rk S else σ.2 2 (100 * t + (x : Int))) ∧ σ'.2 3 (100 * t + (x : Int)) = (if (x : Int) = prt T k (-1) ∧ x < k then rk S else σ.2 3 (100 * t + (x : Int))))
    (h6 : σ'.2 6 t = if rk T = (k : Int) then rk S else σ.2 6 t) (h5 : ∀ x : Nat, x < 100 → σ'.2 5 (100 * t + (x : Int)) = if x = k then 0 else σ.2 5 (100 * t + (x : Int))) : LR σ' t (del T k) := by
  obtain ⟨g1, g2, g3, g4, g5, g6⟩ := hT
  have e := del_gr g4 hk
  rw [← hS] at e
  refine ⟨?_, ?_, ?_, del_srt g4, fun x hx => g5 x ((del_mem g4).mp hx).1, ?_⟩
  · rw [e]
    exact rep_gr g4 hk g1 (fun y hy => by have := g5 y hy; omega) hSr hx
  · rw [h6, e, gr_rk g4 hk, g2]
  · intro x hx1
    rw [h5 x hx1]
    by_cases c : x = k
    · rw [if_pos c, if_neg (fun z => ((del_mem g4).mp z).2 c)]
    · rw [if_neg c, g3 x hx1]
      by_cases c2 : x ∈ tl T
      · rw [if_pos c2, if_pos ((del_mem g4).mpr ⟨c2, c⟩)]
      · rw [if_neg c2, if_neg (fun z => c2 ((del_mem g4).mp z).1)]
  · have := del_tz g4 hk; omega
theorem m_remove_loop {Γ : GX} {σ : MS} {ad : Nat → Nat} {t : Int} {k : Int} (hok : AdOk ad) (hm : MR σ) (ht : t = 0 ∨ t = 1) (h : Ok0 cX2_remove yX2_remove.cls none (rmL 4) Γ) :
    ∀ (S : Tr) (d : Nat) (on : Int), S ≠ .leaf () → RepT σ t on S → (∀ x ∈ tl S, x < 100) → (V Γ 0 0 (mH ad σ) 81 [some (.ref (ad 50)), some (.int (iI t)), some (.int (iI k)), some (.int (iI (tmin S d : Int)))] []) → V Γ 0 0 (mH ad σ) 51 [some (.ref (ad 50)), some (.int (iI t)), some (.int (iI k)), some (.int (iI (rk S)))] [] := by
  intro S
  induction S with
  | leaf u => intro d on hne; exact absurd rfl hne
  | branch x l r ihl ihr =>
    intro d on _ hR hb kk
    obtain ⟨r1, r2, r3, r4, r5⟩ := hR
    have hx := hb x (mem_br.mpr (Or.inr (Or.inl rfl)))
    have e : rk (.branch x l r : Tr) = (x : Int) := rfl
    rw [e]
    refine v_aload_n (n' := 52) h dX2_remove_51 rfl rfl ?_
    refine vm_geta (n' := 55) h 2 (by decide) q939 dX2_remove_52 rfl ?_
    refine v_bipush (n' := 57) h dX2_remove_55 rfl (by decide) ?_
    refine v_iload_n (n' := 58) h dX2_remove_57 rfl rfl ?_
    refine v_imul (n' := 59) h dX2_remove_58 rfl ?_
    refine v_iload_n (n' := 60) h dX2_remove_59 rfl rfl ?_
    refine v_iadd (n' := 61) h dX2_remove_60 rfl ?_
    refine vm_iald (n' := 62) h hok hm 2 200 (by decide) dX2_remove_61 rfl (by omega) (by decide) (fun g61 => ?_)
    refine v_iconst (n' := 63) h dX2_remove_62 rfl ?_
    rw [r2] at g61 ⊢
    refine v_icmp_eq (n' := 66) (tgt := 81) h dX2_remove_63 rfl rfl (by omega) (by omega) (fun c63 => ?_) (fun c63 => ?_)
    · have el : l = .leaf () := by
        cases l with
        | leaf u => rfl
        | branch y a b => simp only [rk] at c63; omega
      subst el
      exact kk
    · refine v_aload_n (n' := 67) h dX2_remove_66 rfl rfl ?_
      refine vm_geta (n' := 70) h 2 (by decide) q939 dX2_remove_67 rfl ?_
      refine v_bipush (n' := 72) h dX2_remove_70 rfl (by decide) ?_
      refine v_iload_n (n' := 73) h dX2_remove_72 rfl rfl ?_
      refine v_imul (n' := 74) h dX2_remove_73 rfl ?_
      refine v_iload_n (n' := 75) h dX2_remove_74 rfl rfl ?_
      refine v_iadd (n' := 76) h dX2_remove_75 rfl ?_
      refine vm_iald (n' := 77) h hok hm 2 200 (by decide) dX2_remove_76 rfl (by omega) (by decide) (fun g76 => ?_)
      refine v_istore3 (n' := 78) h dX2_remove_77 rfl rfl ?_
      refine v_goto (tgt := 51) h dX2_remove_78 rfl ?_
      rw [r2]
      have el : l ≠ .leaf () := fun z => by subst z; exact c63 rfl
      exact ihl x _ el r4 (fun y hy => hb y (mem_br.mpr (Or.inl hy))) kk
theorem ne_mem {x z : Nat} {L : List Nat} (hx : x ∉ L) (hz : z ∈ L) : ¬ (x : Int) = (z : Int) := by
  intro e
  obtain rfl : x = z := by omega
  exact hx hz
theorem rk_n1 {T : Tr} : rk T = -1 ↔ T = .leaf () := by
  cases T with
  | leaf u => exact ⟨fun _ => rfl, fun _ => rfl⟩
  | branch x l r => exact ⟨fun z => by simp only [rk] at z; omega, fun z => by cases z⟩
theorem m_remove (σ : MS) (t : Int) (ht : t = 0 ∨ t = 1) (T : Tr) (hT : LR σ t T) (k : Nat) (hk : k ∈ tl T) (h7 : σ.2 7 t = (tz T : Int)) : MCv yX2_remove cX2_remove 4 none 4 [.int (iI t), .int (iI (k : Int))] σ (fun σ' => RemP t T k σ σ') := by
  intro ad hok hm
  have hs := hT.2.2.2.1
  have hb := hT.2.2.2.2.1
  have hz := hT.2.2.2.2.2
  have hk100 := hb k hk
  obtain ⟨l, r, hsub⟩ := sub_root hs hk
  have hSs : Srt (.branch k l r) := by rw [← hsub]; exact sub_srt hs
  obtain ⟨sl, sr, hlk, hrk⟩ := srt_br.mp hSs
  have hSm : ∀ x, x ∈ tl (.branch k l r) → x ∈ tl T := fun x hx => sub_mem (k := k) (by rw [hsub]; exact hx)
  have hRS := rep_sub hs hk hT.1
  rw [hsub] at hRS
  obtain ⟨q4, q2, q3, qL, qR⟩ := hRS
  have hbl : ∀ x ∈ tl l, x < 100 := fun x hx => hb x (hSm x (mem_br.mpr (Or.inl hx)))
  have hbr : ∀ x ∈ tl r, x < 100 := fun x hx => hb x (hSm x (mem_br.mpr (Or.inr (Or.inr hx))))
  have hrl := rk_lt hbl
  have hrr := rk_lt hbr
  have hpr := prt_r hs hk hb
  have hps : PS σ t T k := prt_spec hs hk hT.1
  -- above of k is no key below k
  have hpn : ∀ x : Nat, x ∈ tl (.branch k l r) → ¬ (x : Int) = prt T k (-1) := by
    intro x hx e
    rcases hps.2 with ⟨-, a2⟩ | ⟨p, p1, p2, p3, -⟩
    · omega
    · rw [hsub] at p3
      have : x = p := by omega
      subst this
      exact p3 hx
  refine Ct.of (by decide) (EL.c1 rfl (EL.c1 rfl (EL.c1 rfl (EL.nn EL.n0)))) (fun Γ h hq hnm => ?_)
  -- the end
  have fin : ∀ (σ6 : MS) (b3 : Option Value) (S : Tr), MR σ6 → S = del (sub T k) k → RepT σ6 t (prt T k (-1)) S → (∀ x ∈ tl T, x ∉ tl (sub T k) → σ6.2 4 (100 * t + (x : Int)) = σ.2 4 (100 * t + (x : Int)) ∧ σ6.2 2 (100 * t + (x : Int)) = (if (x : Int) = prt T k (-1) ∧ k < x then rk S else σ.2 2 (100 * t + (x : Int))) ∧ σ6.2 3 (100 * t + (x : Int)) = (if (x : Int) = prt T k (-1) ∧ x < k then rk S else σ.2 3 (100 * t + (x : Int)))) → σ6.2 6 t = (if rk T = (k : Int) then rk S else σ.2 6 t) → (∀ f i, ¬ (f = 2 ∨ f = 3 ∨ f = 4 ∨ f = 6) → σ6.2 f i = σ.2 f i) → σ6.1 = σ.1 → Fr t σ σ6 → V Γ 0 0 (mH ad σ6) 187 [some (.ref (ad 50)), some (.int (iI t)), some (.int (iI (k : Int))), b3] [] := by
    intro σ6 b3 S m6 hS hSr hx h6 ho h1 hF
    have e7 : (setA σ6 5 (100 * t + (k : Int)) 0).2 7 t = (tz T : Int) := by rw [setA_2o (by decide), ho 7 t (by decide), h7]
    refine v_aload_n (n' := 188) h dX2_remove_187 rfl rfl ?_
    refine vm_geta (n' := 191) h 5 (by decide) q942 dX2_remove_188 rfl ?_
    refine v_bipush (n' := 193) h dX2_remove_191 rfl (by decide) ?_
    refine v_iload_n (n' := 194) h dX2_remove_193 rfl rfl ?_
    refine v_imul (n' := 195) h dX2_remove_194 rfl ?_
    refine v_iload_n (n' := 196) h dX2_remove_195 rfl rfl ?_
    refine v_iadd (n' := 197) h dX2_remove_196 rfl ?_
    refine v_iconst (n' := 198) h dX2_remove_197 rfl ?_
    refine vm_iast (n' := 199) h hok m6 5 200 (by decide) dX2_remove_198 rfl (by omega) (by decide) (by omega) (fun m198 => ?_)
    refine v_aload_n (n' := 200) h dX2_remove_199 rfl rfl ?_
    refine vm_geta (n' := 203) h 7 (by decide) q944 dX2_remove_200 rfl ?_
    refine v_iload_n (n' := 204) h dX2_remove_203 rfl rfl ?_
    refine v_dup2 (n' := 205) h dX2_remove_204 rfl rfl rfl ?_
    refine vm_iald (n' := 206) h hok m198 7 2 (by decide) dX2_remove_205 rfl (by omega) (by decide) (fun g205 => ?_)
    refine v_iconst (n' := 207) h dX2_remove_206 rfl ?_
    refine v_isub (n' := 208) h dX2_remove_207 rfl ?_
    refine vm_iast (n' := 209) h hok m198 7 2 (by decide) dX2_remove_208 rfl (by omega) (by decide) (by omega) (fun m208 => ?_)
    refine v_vret h hq dX2_remove_209 (Nat.le_refl _) (Nat.le_refl _) (ret_mv m208 ?_)
    refine ⟨rem_LR (S := S) hT hk hS (hSr.cg (fun x _ => ⟨?_, ?_, ?_⟩)) (fun x hx1 hx2 => ?_) ?_ (fun x hx1 => ?_), ?_, ?_, ?_, ?_, h1, ?_⟩
    · rw [setA_2o (by decide), setA_2o (by decide)]
    · rw [setA_2o (by decide), setA_2o (by decide)]
    · rw [setA_2o (by decide), setA_2o (by decide)]
    · rw [setA_2o (by decide), setA_2o (by decide), setA_2o (by decide), setA_2o (by decide), setA_2o (by decide), setA_2o (by decide)]
      exact hx x hx1 hx2
    · rw [setA_2o (by decide), setA_2o (by decide)]
      exact h6
    · rw [setA_2o (by decide), setA_2]
      by_cases c : x = k
      · subst c; rw [if_pos ⟨rfl, rfl⟩, if_pos rfl]
      · rw [if_neg (by omega), if_neg c, ho 5 _ (by decide)]
    · rw [setA_2s, e7]
    · rw [setA_2o (by decide), setA_2o (by decide), ho 8 t (by decide)]
    · rw [setA_2o (by decide), setA_2o (by decide), ho 10 t (by decide)]
    · rw [setA_2o (by decide), setA_2o (by decide), ho 11 t (by decide)]
    · exact (hF.trans (Fr.sA (by unfold wr; omega))).trans (Fr.sA (by unfold wr; omega))
  -- one side at most
  have finA : ∀ (C : Tr) (σ1 : MS) (b3 : Option Value), MR σ1 → C = del (sub T k) k → (C = l ∨ C = r) → RplP t T k (rk C) σ σ1 → V Γ 0 0 (mH ad σ1) 187 [some (.ref (ad 50)), some (.int (iI t)), some (.int (iI (k : Int))), b3] [] := by
    intro C σ1 b3 m1 hC hlr hRp
    obtain ⟨r1, r4, r2, r3, r6, r7, rF⟩ := hRp
    have hCs : Srt C := by rcases hlr with rfl | rfl <;> assumption
    have hCm : ∀ x, x ∈ tl C → x ∈ tl (.branch k l r) ∧ x ≠ k := by
      intro x hx
      rcases hlr with rfl | rfl
      · exact ⟨mem_br.mpr (Or.inl hx), by have := hlk x hx; omega⟩
      · exact ⟨mem_br.mpr (Or.inr (Or.inr hx)), by have := hrk x hx; omega⟩
    have hCr : RepT σ t (k : Int) C := by rcases hlr with rfl | rfl <;> assumption
    refine fin σ1 b3 C m1 hC (hCr.on hCs (fun x hx => ?_)) (fun x hx nx => ?_) r6 r7 r1 rF
    · obtain ⟨x1, x2⟩ := hCm x hx
      have x3 := hb x (hSm x x1)
      have x4 := hpn x x1
      refine ⟨by rw [r2 x x3, if_neg (fun z => x4 z.1)], by rw [r3 x x3, if_neg (fun z => x4 z.1)], ?_⟩
      rw [r4]
      by_cases c : rk C = (x : Int)
      · rw [if_pos (by omega), if_pos c]
      · rw [if_neg (by omega), if_neg c]
    · have x3 := hb x hx
      refine ⟨?_, r2 x x3, r3 x x3⟩
      rw [r4, if_neg]
      rintro ⟨z1, z2⟩
      rcases rk_mem (T := C) with e | ⟨y, y1, y2⟩
      · exact z1 e
      · have : x = y := by omega
        subst this
        exact nx (by rw [hsub]; exact (hCm x y1).1)
  have hdel : del (sub T k) k = (match ro l, ro r with
      | none, _ => r
      | some _, none => l
      | some _, some y => .branch (tmin r y) l (del r (tmin r y))) := by rw [hsub, del_br, if_pos rfl]; cases ro l <;> cases ro r <;> rfl
  -- both sides
  have goB : l ≠ .leaf () → r ≠ .leaf () → ∀ b3 : Option Value, V Γ 0 0 (mH ad σ) 39 [some (.ref (ad 50)), some (.int (iI t)), some (.int (iI (k : Int))), b3] [] := by
    intro nl nr b3
    obtain ⟨y, hy⟩ : ∃ y, ro r = some y := by
      cases hr : ro r with
      | none => exact absurd (ro_none.mp hr) nr
      | some y => exact ⟨y, rfl⟩
    obtain ⟨y0, hy0⟩ : ∃ y, ro l = some y := by
      cases hr : ro l with
      | none => exact absurd (ro_none.mp hr) nl
      | some y => exact ⟨y, rfl⟩
    rw [hy0, hy] at hdel
    have hdel : del (sub T k) k = .branch (tmin r y) l (del r (tmin r y)) := hdel
    have hmr := tmin_mem' (d := y) nr
    obtain ⟨rr, hrr⟩ := tmin_sub (d := y) sr nr
    have hmin : ∀ x ∈ tl r, tmin r y ≤ x := fun x hx => tmin_le sr hx
    generalize hmm : tmin r y = mm at hdel hmr hrr hmin
    have hmk := hrk mm hmr
    have hm100 := hbr mm hmr
    have hmT : mm ∈ tl T := hSm mm (mem_br.mpr (Or.inr (Or.inr hmr)))
    have hmS : mm ∈ tl (sub T k) := by rw [hsub]; exact mem_br.mpr (Or.inr (Or.inr hmr))
    have e_sm : sub T mm = .branch mm (.leaf ()) rr := by
      rw [sub_sub hs hmS, hsub, sub_br, if_neg (by omega), if_neg (by omega), hrr]
    have srr : Srt (.branch mm (.leaf ()) rr) := by rw [← hrr]; exact sub_srt sr
    have hrrs := (srt_br.mp srr).2.1
    have hrrm : ∀ x ∈ tl rr, x ∈ tl r ∧ mm < x := fun x hx => ⟨sub_mem (k := mm) (by rw [hrr]; exact mem_br.mpr (Or.inr (Or.inr hx))), (srt_br.mp srr).2.2.2 x hx⟩
    have e_pm : prt T mm (-1) = prt r mm (k : Int) := by
      rw [prt_sub hs hmS, hsub, prt_br, if_neg (by omega), if_neg (by omega)]
    have hpm := prt_root sr hmr (on := (k : Int))
    have hpmr : prt T mm (-1) = (k : Int) ∨ ∃ p, p ∈ tl r ∧ prt T mm (-1) = (p : Int) := by
      rw [e_pm]
      rcases hpm with ⟨-, a⟩ | ⟨-, p, p1, p2⟩
      · exact Or.inl a
      · exact Or.inr ⟨p, p1, p2⟩
    have hRm := rep_sub hs hmT hT.1
    rw [e_sm] at hRm
    obtain ⟨w4, w2, w3, -, wR⟩ := hRm
    have hrrb : ∀ x ∈ tl rr, x < 100 := fun x hx => hbr x (hrrm x hx).1
    have hrrk := rk_lt hrrb
    have hpm100 := prt_r hs hmT hb
    have w2' : σ.2 2 (100 * t + (mm : Int)) = -1 := w2
    have hR1 : RplP t T mm (rk rr) σ (replS σ t (mm : Int) (rk rr)) := repl_spec hT.1 hs hb hmT (by omega)
    -- r without its least
    have e_del : del r mm = gr r mm rr := by rw [del_gr sr hmr, hrr, del_br, if_pos rfl]; rfl
    have hr'm : ∀ x ∈ tl (del r mm), x ∈ tl r ∧ x ≠ mm := fun x hx => (del_mem sr).mp hx
    have hr's := del_srt (k := mm) sr
    have hr'b : ∀ x ∈ tl (del r mm), x < 100 := fun x hx => hbr x (hr'm x hx).1
    have hr'k := rk_lt hr'b
    -- behind the hangings
    have finB : ∀ (σ1 σ5 : MS), MR σ5 → RplP t T mm (rk rr) σ σ1 → σ5.1 = σ1.1 → (∀ f i, ¬ (f = 2 ∨ f = 3 ∨ f = 4) → σ5.2 f i = σ1.2 f i) → (∀ i, σ5.2 2 i = if i = 100 * t + (mm : Int) then rk l else σ1.2 2 i) → (∀ i, σ5.2 3 i = if i = 100 * t + (mm : Int) then rk (del r mm) else σ1.2 3 i) → (∀ i, σ5.2 4 i = if i = 100 * t + rk l ∨ (rk (del r mm) ≠ -1 ∧ i = 100 * t + rk (del r mm)) then (mm : Int) else σ1.2 4 i) → Fr t σ1 σ5 → V Γ 0 0 (mH ad σ5) 180 [some (.ref (ad 50)), some (.int (iI t)), some (.int (iI (k : Int))), some (.int (iI (mm : Int)))] [] := by
      intro σ1 σ5 m5 hRp o1 oo o2 o3 o4 oF
      obtain ⟨r1, r4, r2, r3, r6, r7, rF⟩ := hRp
      -- what is not below k
      have out2 : ∀ x ∈ tl T, x ∉ tl (sub T k) → σ5.2 2 (100 * t + (x : Int)) = σ.2 2 (100 * t + (x : Int)) ∧ σ5.2 3 (100 * t + (x : Int)) = σ.2 3 (100 * t + (x : Int)) ∧ σ5.2 4 (100 * t + (x : Int)) = σ.2 4 (100 * t + (x : Int)) := by
        intro x hx nx
        have x1 := hb x hx
        rw [hsub] at nx
        have ne : ∀ z : Nat, z ∈ tl (.branch k l r) → ¬ (x : Int) = (z : Int) := fun z hz => ne_mem nx hz
        have nm := ne mm (mem_br.mpr (Or.inr (Or.inr hmr)))
        have np : ¬ (x : Int) = prt T mm (-1) := by
          rcases hpmr with e | ⟨p, p1, p2⟩
          · have := ne k (mem_br.mpr (Or.inr (Or.inl rfl))); omega
          · have := ne p (mem_br.mpr (Or.inr (Or.inr p1))); omega
        have nrl : ¬ (x : Int) = rk l := by
          rcases rk_mem (T := l) with e | ⟨z, z1, z2⟩
          · omega
          · have := ne z (mem_br.mpr (Or.inl z1)); omega
        have nrr : ¬ (x : Int) = rk rr := by
          rcases rk_mem (T := rr) with e | ⟨z, z1, z2⟩
          · omega
          · have := ne z (mem_br.mpr (Or.inr (Or.inr (hrrm z z1).1))); omega
        have nr' : ¬ (x : Int) = rk (del r mm) := by
          rcases rk_mem (T := del r mm) with e | ⟨z, z1, z2⟩
          · omega
          · have := ne z (mem_br.mpr (Or.inr (Or.inr (hr'm z z1).1))); omega
        refine ⟨?_, ?_, ?_⟩
        · rw [o2, if_neg (by omega), r2 x x1, if_neg (fun z => np z.1)]
        · rw [o3, if_neg (by omega), r3 x x1, if_neg (fun z => np z.1)]
        · rw [o4, if_neg (by omega), r4, if_neg (by omega)]
      have hlk1 : ∀ z : Nat, z ∈ tl l ∨ z ∈ tl r → ¬ (k : Int) = (z : Int) := fun z hz e => by
        rcases hz with hz | hz
        · have := hlk z hz; omega
        · have := hrk z hz; omega
      have k4 : σ5.2 4 (100 * t + (k : Int)) = σ.2 4 (100 * t + (k : Int)) := by
        have nrl : ¬ (k : Int) = rk l := by
          rcases rk_mem (T := l) with e | ⟨z, z1, z2⟩
          · omega
          · have := hlk1 z (Or.inl z1); omega
        have nrr : ¬ (k : Int) = rk rr := by
          rcases rk_mem (T := rr) with e | ⟨z, z1, z2⟩
          · omega
          · have := hlk1 z (Or.inr (hrrm z z1).1); omega
        have nr' : ¬ (k : Int) = rk (del r mm) := by
          rcases rk_mem (T := del r mm) with e | ⟨z, z1, z2⟩
          · omega
          · have := hlk1 z (Or.inr (hr'm z z1).1); omega
        rw [o4, if_neg (by omega), r4, if_neg (by omega)]
      have hps5 : PS σ5 t T k := by
        refine ⟨by rw [k4]; exact hps.1, ?_⟩
        rcases hps.2 with a | ⟨p, p1, p2, p3, p4⟩
        · exact Or.inl a
        · obtain ⟨x1, x2, x3⟩ := out2 p p1 p3
          exact Or.inr ⟨p, p1, p2, p3, by rw [x1, x2]; exact p4⟩
      have hR6 : RplP t T k (mm : Int) σ5 (replS σ5 t (k : Int) (mm : Int)) := repl_spec2 hps5 hs hb hk (by omega)
      have k4' : σ5.2 4 (100 * t + (k : Int)) = prt T k (-1) := hps5.1
      refine v_aload_n (n' := 181) h dX2_remove_180 rfl rfl ?_
      refine v_iload_n (n' := 182) h dX2_remove_181 rfl rfl ?_
      refine v_iload_n (n' := 183) h dX2_remove_182 rfl rfl ?_
      refine v_iload_n (n' := 184) h dX2_remove_183 rfl rfl ?_
      refine vm_callV (n' := 187) h hok m5 (m_replace _ _ _ _ ht (by omega) (by omega) (by rw [k4']; omega)) rfl (lw_V q1200 q1202 qs58 q87 q1203) hdX2_replace (by decide) ⟨Nat.zero_le _, Nat.zero_le _⟩ (Nat.le_of_ble_eq_true rfl) dX2_remove_184 rfl rfl (fun s184 p184 m184 => ?_)
      have p184 := p184.symm
      subst p184
      generalize replS σ5 t (k : Int) (mm : Int) = σ6 at hR6 m184 ⊢
      obtain ⟨v1, v4, v2, v3, v6, v7, vF⟩ := hR6
      have inS : ∀ x : Nat, x ∈ tl (.branch k l r) → σ6.2 2 (100 * t + (x : Int)) = σ5.2 2 (100 * t + (x : Int)) ∧ σ6.2 3 (100 * t + (x : Int)) = σ5.2 3 (100 * t + (x : Int)) := by
        intro x hx
        have x1 := hb x (hSm x hx)
        have x2 := hpn x hx
        exact ⟨by rw [v2 x x1, if_neg (fun z => x2 z.1)], by rw [v3 x x1, if_neg (fun z => x2 z.1)]⟩
      refine fin σ6 _ (.branch mm l (del r mm)) m184 hdel.symm ⟨?_, ?_, ?_, ?_, ?_⟩ (fun x hx nx => ?_) ?_ (fun f i hf => ?_) ?_ ?_
      · rw [v4, if_pos (by omega)]
      · rw [(inS mm (mem_br.mpr (Or.inr (Or.inr hmr)))).1, o2, if_pos rfl]
      · rw [(inS mm (mem_br.mpr (Or.inr (Or.inr hmr)))).2, o3, if_pos rfl]
      · refine qL.on sl (fun x hx => ?_)
        have x1 := hbl x hx
        have xk := hlk x hx
        obtain ⟨i2, i3⟩ := inS x (mem_br.mpr (Or.inl hx))
        have np : ¬ (x : Int) = prt T mm (-1) := by
          rcases hpmr with e | ⟨p, p1, p2⟩
          · omega
          · have := hrk p p1; omega
        have nrr : ¬ (x : Int) = rk rr := by
          rcases rk_mem (T := rr) with e | ⟨z, z1, z2⟩
          · omega
          · have := hrk z (hrrm z z1).1; omega
        have nr' : ¬ (x : Int) = rk (del r mm) := by
          rcases rk_mem (T := del r mm) with e | ⟨z, z1, z2⟩
          · omega
          · have := hrk z (hr'm z z1).1; omega
        refine ⟨?_, ?_, ?_⟩
        · rw [i2, o2, if_neg (by omega), r2 x x1, if_neg (fun z => np z.1)]
        · rw [i3, o3, if_neg (by omega), r3 x x1, if_neg (fun z => np z.1)]
        · rw [v4, if_neg (by omega), o4]
          by_cases c : rk l = (x : Int)
          · rw [if_pos (by omega), if_pos c]
          · rw [if_neg (by omega), if_neg c, r4, if_neg (by omega)]
      · have hR1r : RepT σ1 t (k : Int) (del r mm) := by
          rw [e_del]
          refine rep_gr sr hmr qR (fun z hz => by have := hrk z hz; omega) ?_ (fun x hx nx => ?_)
          · refine wR.on hrrs (fun x hx => ?_)
            obtain ⟨x0, x3⟩ := hrrm x hx
            have x1 := hbr x x0
            have np : ¬ (x : Int) = prt T mm (-1) := by
              have hpn2 : ∀ p, p ∈ tl T → prt T mm (-1) = (p : Int) → p ∉ tl (sub T mm) → ¬ (x : Int) = prt T mm (-1) := by
                intro p _ p2 p3 e
                have : x = p := by omega
                subst this
                exact p3 (by rw [e_sm]; exact mem_br.mpr (Or.inr (Or.inr hx)))
              rcases (prt_spec hs hmT hT.1).2 with ⟨-, a2⟩ | ⟨p, p1, p2, p3, -⟩
              · omega
              · exact hpn2 p p1 p2 p3
            refine ⟨by rw [r2 x x1, if_neg (fun z => np z.1)], by rw [r3 x x1, if_neg (fun z => np z.1)], ?_⟩
            rw [r4, e_pm]
            by_cases c : rk rr = (x : Int)
            · rw [if_pos (by omega), if_pos c]
            · rw [if_neg (by omega), if_neg c]
          · have x1 := hbr x hx
            refine ⟨?_, by rw [r2 x x1, e_pm], by rw [r3 x x1, e_pm]⟩
            rw [r4, if_neg]
            rintro ⟨z1, z2⟩
            rcases rk_mem (T := rr) with e | ⟨z, z3, z4⟩
            · exact z1 e
            · have : x = z := by omega
              subst this
              exact nx (by rw [hrr]; exact mem_br.mpr (Or.inr (Or.inr z3)))
        refine hR1r.on hr's (fun x hx => ?_)
        obtain ⟨x0, x3⟩ := hr'm x hx
        have x1 := hbr x x0
        have xk := hrk x x0
        obtain ⟨i2, i3⟩ := inS x (mem_br.mpr (Or.inr (Or.inr x0)))
        have nrl : ¬ (x : Int) = rk l := by
          rcases rk_mem (T := l) with e | ⟨z, z1, z2⟩
          · omega
          · have := hlk z z1; omega
        refine ⟨?_, ?_, ?_⟩
        · rw [i2, o2, if_neg (by omega)]
        · rw [i3, o3, if_neg (by omega)]
        · rw [v4, if_neg (by omega), o4]
          by_cases c : rk (del r mm) = (x : Int)
          · rw [if_pos (by omega), if_pos c]
          · rw [if_neg (by omega), if_neg c]
      · have x1 := hb x hx
        obtain ⟨a2, a3, a4⟩ := out2 x hx nx
        have nm : ¬ (x : Int) = (mm : Int) := ne_mem nx hmS
        exact ⟨by rw [v4, if_neg (by omega), a4], by rw [v2 x x1, a2]; rfl, by rw [v3 x x1, a3]; rfl⟩
      · rw [v6, oo 6 t (by decide), r6]
        have nk : ¬ rk T = (mm : Int) := by
          intro z
          have := hpm100.2.2.mp z
          rcases hpmr with e | ⟨p, -, e⟩ <;> omega
        rw [if_neg nk]
        rfl
      · rw [v7 f i hf, oo f i (by omega), r7 f i hf]
      · rw [v1, o1, r1]
      · exact (rF.trans oF).trans vF
    have a3 : ∀ σ1, RplP t T mm (rk rr) σ σ1 → σ1.2 3 (100 * t + (k : Int)) = rk (del r mm) := by
      intro σ1 hR1
      rw [hR1.2.2.2.1 k hk100, e_del, gr_rk sr hmr, e_pm, q3]
      rcases hpm with ⟨a, b⟩ | ⟨a, p, p1, p2⟩
      · rw [if_pos ⟨by omega, hmk⟩, if_pos a]
      · have := hrk p p1
        rw [if_neg (by omega), if_neg a]
    clear hpm hpmr
    have kk : V Γ 0 0 (mH ad σ) 81 [some (.ref (ad 50)), some (.int (iI t)), some (.int (iI (k : Int))), some (.int (iI (mm : Int)))] [] := by
      refine v_aload_n (n' := 82) h dX2_remove_81 rfl rfl ?_
      refine v_iload_n (n' := 83) h dX2_remove_82 rfl rfl ?_
      refine v_iload_n (n' := 84) h dX2_remove_83 rfl rfl ?_
      refine vm_callV (n' := 87) h hok hm (m_unhang _ _ ht mm hm100 (by omega) (by rw [w3]; omega) (by rw [w4]; omega)) rfl (lw_V q1263 q1265 qs67 q87 q1266) hdX2_unhang (by decide) ⟨Nat.zero_le _, Nat.zero_le _⟩ (Nat.le_of_ble_eq_true rfl) dX2_remove_84 rfl rfl (fun s84 p84 m84 => ?_)
      have p84 := p84.symm
      subst p84
      rw [if_pos w2', w3] at m84 ⊢
      generalize replS σ t (mm : Int) (rk rr) = σ1 at hR1 m84 ⊢
      have a2K : σ1.2 2 (100 * t + (k : Int)) = rk l := by rw [hR1.2.2.1 k hk100, if_neg (by omega), q2]
      have a3K := a3 σ1 hR1
      have nlk : rk l ≠ -1 := fun z => nl (rk_n1.mp z)
      have d2 : (setA (setA σ1 2 (100 * t + (mm : Int)) (rk l)) 3 (100 * t + (mm : Int)) (rk (del r mm))).2 2 (100 * t + (mm : Int)) = rk l := by rw [setA_2o (by decide), setA_2s]
      have d3 : (hangS (setA (setA σ1 2 (100 * t + (mm : Int)) (rk l)) 3 (100 * t + (mm : Int)) (rk (del r mm))) t (rk l) (mm : Int)).2 3 (100 * t + (mm : Int)) = rk (del r mm) := by rw [hangS_o _ (by decide), setA_2s]
      refine v_aload_n (n' := 88) h dX2_remove_87 rfl rfl ?_
      refine vm_geta (n' := 91) h 2 (by decide) q939 dX2_remove_88 rfl ?_
      refine v_bipush (n' := 93) h dX2_remove_91 rfl (by decide) ?_
      refine v_iload_n (n' := 94) h dX2_remove_93 rfl rfl ?_
      refine v_imul (n' := 95) h dX2_remove_94 rfl ?_
      refine v_iload_n (n' := 96) h dX2_remove_95 rfl rfl ?_
      refine v_iadd (n' := 97) h dX2_remove_96 rfl ?_
      refine v_aload_n (n' := 98) h dX2_remove_97 rfl rfl ?_
      refine vm_geta (n' := 101) h 2 (by decide) q939 dX2_remove_98 rfl ?_
      refine v_bipush (n' := 103) h dX2_remove_101 rfl (by decide) ?_
      refine v_iload_n (n' := 104) h dX2_remove_103 rfl rfl ?_
      refine v_imul (n' := 105) h dX2_remove_104 rfl ?_
      refine v_iload_n (n' := 106) h dX2_remove_105 rfl rfl ?_
      refine v_iadd (n' := 107) h dX2_remove_106 rfl ?_
      refine vm_iald (n' := 108) h hok m84 2 200 (by decide) dX2_remove_107 rfl (by omega) (by decide) (fun g107 => ?_)
      rw [a2K] at g107 ⊢
      refine vm_iast (n' := 109) h hok m84 2 200 (by decide) dX2_remove_108 rfl (by omega) (by decide) (by omega) (fun m108 => ?_)
      refine v_aload_n (n' := 110) h dX2_remove_109 rfl rfl ?_
      refine vm_geta (n' := 113) h 3 (by decide) q940 dX2_remove_110 rfl ?_
      refine v_bipush (n' := 115) h dX2_remove_113 rfl (by decide) ?_
      refine v_iload_n (n' := 116) h dX2_remove_115 rfl rfl ?_
      refine v_imul (n' := 117) h dX2_remove_116 rfl ?_
      refine v_iload_n (n' := 118) h dX2_remove_117 rfl rfl ?_
      refine v_iadd (n' := 119) h dX2_remove_118 rfl ?_
      refine v_aload_n (n' := 120) h dX2_remove_119 rfl rfl ?_
      refine vm_geta (n' := 123) h 3 (by decide) q940 dX2_remove_120 rfl ?_
      refine v_bipush (n' := 125) h dX2_remove_123 rfl (by decide) ?_
      refine v_iload_n (n' := 126) h dX2_remove_125 rfl rfl ?_
      refine v_imul (n' := 127) h dX2_remove_126 rfl ?_
      refine v_iload_n (n' := 128) h dX2_remove_127 rfl rfl ?_
      refine v_iadd (n' := 129) h dX2_remove_128 rfl ?_
      refine vm_iald (n' := 130) h hok m108 3 200 (by decide) dX2_remove_129 rfl (by omega) (by decide) (fun g129 => ?_)
      rw [setA_2o (by decide), a3K] at g129 ⊢
      refine vm_iast (n' := 131) h hok m108 3 200 (by decide) dX2_remove_130 rfl (by omega) (by decide) (by omega) (fun m130 => ?_)
      refine v_aload_n (n' := 132) h dX2_remove_131 rfl rfl ?_
      refine v_iload_n (n' := 133) h dX2_remove_132 rfl rfl ?_
      refine v_aload_n (n' := 134) h dX2_remove_133 rfl rfl ?_
      refine vm_geta (n' := 137) h 2 (by decide) q939 dX2_remove_134 rfl ?_
      refine v_bipush (n' := 139) h dX2_remove_137 rfl (by decide) ?_
      refine v_iload_n (n' := 140) h dX2_remove_139 rfl rfl ?_
      refine v_imul (n' := 141) h dX2_remove_140 rfl ?_
      refine v_iload_n (n' := 142) h dX2_remove_141 rfl rfl ?_
      refine v_iadd (n' := 143) h dX2_remove_142 rfl ?_
      refine vm_iald (n' := 144) h hok m130 2 200 (by decide) dX2_remove_143 rfl (by omega) (by decide) (fun g143 => ?_)
      rw [d2] at g143 ⊢
      refine v_iload_n (n' := 145) h dX2_remove_144 rfl rfl ?_
      refine vm_callV (n' := 148) h hok m130 (m_hang _ _ _ _ ht (by omega) (by omega)) rfl (lw_V q1156 q1158 qs47 q87 q1159) hdX2_hang (by decide) ⟨Nat.zero_le _, Nat.zero_le _⟩ (Nat.le_of_ble_eq_true rfl) dX2_remove_145 rfl rfl (fun s145 p145 m145 => ?_)
      have p145 := p145.symm
      subst p145
      refine v_aload_n (n' := 149) h dX2_remove_148 rfl rfl ?_
      refine vm_geta (n' := 152) h 3 (by decide) q940 dX2_remove_149 rfl ?_
      refine v_bipush (n' := 154) h dX2_remove_152 rfl (by decide) ?_
      refine v_iload_n (n' := 155) h dX2_remove_154 rfl rfl ?_
      refine v_imul (n' := 156) h dX2_remove_155 rfl ?_
      refine v_iload_n (n' := 157) h dX2_remove_156 rfl rfl ?_
      refine v_iadd (n' := 158) h dX2_remove_157 rfl ?_
      refine vm_iald (n' := 159) h hok m145 3 200 (by decide) dX2_remove_158 rfl (by omega) (by decide) (fun g158 => ?_)
      rw [d3] at g158 ⊢
      refine v_iconst (n' := 160) h dX2_remove_159 rfl ?_
      refine v_icmp_eq (n' := 163) (tgt := 180) h dX2_remove_160 rfl rfl (by omega) (by omega) (fun c160 => ?_) (fun c160 => ?_)
      · have e' := c160
        refine finB σ1 _ m145 hR1 hangS_1 (fun f i hf => ?_) (fun i => ?_) (fun i => ?_) (fun i => ?_) (((Fr.sA (by unfold wr; omega)).trans (Fr.sA (by unfold wr; omega))).trans (Fr.hang (by omega)))
        · by_cases c6 : f = 6
          · subst c6; rw [hangS_6, if_neg (by omega), setA_2o (by decide), setA_2o (by decide)]
          · rw [hangS_o i (by omega), setA_2o (by omega), setA_2o (by omega)]
        · rw [hangS_o i (by decide), setA_2o (by decide), setA_2]; simp
        · rw [hangS_o i (by decide), setA_2, setA_2o (by decide)]; simp
        · rw [hangS_4, setA_2o (by decide), setA_2o (by decide)]
          by_cases c : i = 100 * t + rk l
          · rw [if_pos ⟨nlk, c⟩, if_pos (Or.inl c)]
          · rw [if_neg (fun z => c z.2), if_neg (by omega)]
      · refine v_aload_n (n' := 164) h dX2_remove_163 rfl rfl ?_
        refine v_iload_n (n' := 165) h dX2_remove_164 rfl rfl ?_
        refine v_aload_n (n' := 166) h dX2_remove_165 rfl rfl ?_
        refine vm_geta (n' := 169) h 3 (by decide) q940 dX2_remove_166 rfl ?_
        refine v_bipush (n' := 171) h dX2_remove_169 rfl (by decide) ?_
        refine v_iload_n (n' := 172) h dX2_remove_171 rfl rfl ?_
        refine v_imul (n' := 173) h dX2_remove_172 rfl ?_
        refine v_iload_n (n' := 174) h dX2_remove_173 rfl rfl ?_
        refine v_iadd (n' := 175) h dX2_remove_174 rfl ?_
        refine vm_iald (n' := 176) h hok m145 3 200 (by decide) dX2_remove_175 rfl (by omega) (by decide) (fun g175 => ?_)
        rw [d3] at g175 ⊢
        refine v_iload_n (n' := 177) h dX2_remove_176 rfl rfl ?_
        refine vm_callV (n' := 180) h hok m145 (m_hang _ _ _ _ ht (by omega) (by omega)) rfl (lw_V q1156 q1158 qs47 q87 q1159) hdX2_hang (by decide) ⟨Nat.zero_le _, Nat.zero_le _⟩ (Nat.le_of_ble_eq_true rfl) dX2_remove_177 rfl rfl (fun s177 p177 m177 => ?_)
        have p177 := p177.symm
        subst p177
        refine finB σ1 _ m177 hR1 (hangS_1.trans hangS_1) (fun f i hf => ?_) (fun i => ?_) (fun i => ?_) (fun i => ?_) ((((Fr.sA (by unfold wr; omega)).trans (Fr.sA (by unfold wr; omega))).trans (Fr.hang (by omega))).trans (Fr.hang (by omega)))
        · by_cases c6 : f = 6
          · subst c6; rw [hangS_6, if_neg (by omega), hangS_6, if_neg (by omega), setA_2o (by decide), setA_2o (by decide)]
          · rw [hangS_o i (by omega), hangS_o i (by omega), setA_2o (by omega), setA_2o (by omega)]
        · rw [hangS_o i (by decide), hangS_o i (by decide), setA_2o (by decide), setA_2]; simp
        · rw [hangS_o i (by decide), hangS_o i (by decide), setA_2, setA_2o (by decide)]; simp
        · rw [hangS_4, hangS_4, setA_2o (by decide), setA_2o (by decide)]
          by_cases c : i = 100 * t + rk (del r mm)
          · rw [if_pos ⟨c160, c⟩, if_pos (Or.inr ⟨c160, c⟩)]
          · rw [if_neg (fun z => c z.2)]
            by_cases c2 : i = 100 * t + rk l
            · rw [if_pos ⟨nlk, c2⟩, if_pos (Or.inl c2)]
            · rw [if_neg (fun z => c2 z.2), if_neg (by omega)]
    refine v_aload_n (n' := 40) h dX2_remove_39 rfl rfl ?_
    refine vm_geta (n' := 43) h 3 (by decide) q940 dX2_remove_40 rfl ?_
    refine v_bipush (n' := 45) h dX2_remove_43 rfl (by decide) ?_
    refine v_iload_n (n' := 46) h dX2_remove_45 rfl rfl ?_
    refine v_imul (n' := 47) h dX2_remove_46 rfl ?_
    refine v_iload_n (n' := 48) h dX2_remove_47 rfl rfl ?_
    refine v_iadd (n' := 49) h dX2_remove_48 rfl ?_
    refine vm_iald (n' := 50) h hok hm 3 200 (by decide) dX2_remove_49 rfl (by omega) (by decide) (fun g49 => ?_)
    rw [q3] at g49 ⊢
    refine v_istore3 (n' := 51) h dX2_remove_50 rfl rfl ?_
    exact m_remove_loop hok hm ht h r y _ nr qR hbr (by rw [hmm]; exact kk)
  have eL : ∀ x : Int, x = -1 → rk l = x → l = .leaf () := fun x e1 e2 => rk_n1.mp (by omega)
  refine v_aload_n (n' := 1) h dX2_remove_0 rfl rfl ?_
  refine vm_geta (n' := 4) h 2 (by decide) q939 dX2_remove_1 rfl ?_
  refine v_bipush (n' := 6) h dX2_remove_4 rfl (by decide) ?_
  refine v_iload_n (n' := 7) h dX2_remove_6 rfl rfl ?_
  refine v_imul (n' := 8) h dX2_remove_7 rfl ?_
  refine v_iload_n (n' := 9) h dX2_remove_8 rfl rfl ?_
  refine v_iadd (n' := 10) h dX2_remove_9 rfl ?_
  refine vm_iald (n' := 11) h hok hm 2 200 (by decide) dX2_remove_10 rfl (by omega) (by decide) (fun g10 => ?_)
  rw [q2] at g10 ⊢
  refine v_iconst (n' := 12) h dX2_remove_11 rfl ?_
  refine v_icmp_eq (n' := 15) (tgt := 30) h dX2_remove_12 rfl rfl (by omega) (by omega) (fun c12 => ?_) (fun c12 => ?_)
  · refine v_aload_n (n' := 31) h dX2_remove_30 rfl rfl ?_
    refine v_iload_n (n' := 32) h dX2_remove_31 rfl rfl ?_
    refine v_iload_n (n' := 33) h dX2_remove_32 rfl rfl ?_
    refine vm_callV (n' := 36) h hok hm (m_unhang _ _ ht k hk100 (by omega) (by omega) (by omega)) rfl (lw_V q1263 q1265 qs67 q87 q1266) hdX2_unhang (by decide) ⟨Nat.zero_le _, Nat.zero_le _⟩ (Nat.le_of_ble_eq_true rfl) dX2_remove_33 rfl rfl (fun s33 p33 m33 => ?_)
    have p33 := p33.symm
    subst p33
    refine v_goto (tgt := 187) h dX2_remove_36 rfl ?_
    have e := rk_n1.mp c12
    rw [q2, if_pos c12, q3] at m33 ⊢
    exact finA r _ _ m33 (by rw [hdel, e]; rfl) (Or.inr rfl) (repl_spec2 hps hs hb hk (by omega))
  · refine v_aload_n (n' := 16) h dX2_remove_15 rfl rfl ?_
    refine vm_geta (n' := 19) h 3 (by decide) q940 dX2_remove_16 rfl ?_
    refine v_bipush (n' := 21) h dX2_remove_19 rfl (by decide) ?_
    refine v_iload_n (n' := 22) h dX2_remove_21 rfl rfl ?_
    refine v_imul (n' := 23) h dX2_remove_22 rfl ?_
    refine v_iload_n (n' := 24) h dX2_remove_23 rfl rfl ?_
    refine v_iadd (n' := 25) h dX2_remove_24 rfl ?_
    refine vm_iald (n' := 26) h hok hm 3 200 (by decide) dX2_remove_25 rfl (by omega) (by decide) (fun g25 => ?_)
    rw [q3] at g25 ⊢
    refine v_iconst (n' := 27) h dX2_remove_26 rfl ?_
    refine v_icmp_ne (n' := 30) (tgt := 39) h dX2_remove_27 rfl rfl (by omega) (by omega) (fun c27 => ?_) (fun c27 => ?_)
    · exact goB (fun z => c12 (rk_n1.mpr z)) (fun z => c27 (rk_n1.mpr z)) _
    · refine v_aload_n (n' := 31) h dX2_remove_30 rfl rfl ?_
      refine v_iload_n (n' := 32) h dX2_remove_31 rfl rfl ?_
      refine v_iload_n (n' := 33) h dX2_remove_32 rfl rfl ?_
      refine vm_callV (n' := 36) h hok hm (m_unhang _ _ ht k hk100 (by omega) (by omega) (by omega)) rfl (lw_V q1263 q1265 qs67 q87 q1266) hdX2_unhang (by decide) ⟨Nat.zero_le _, Nat.zero_le _⟩ (Nat.le_of_ble_eq_true rfl) dX2_remove_33 rfl rfl (fun s33 p33 m33 => ?_)
      have p33 := p33.symm
      subst p33
      refine v_goto (tgt := 187) h dX2_remove_36 rfl ?_
      have e := rk_n1.mp c27
      rw [q2, if_neg c12] at m33 ⊢
      refine finA l _ _ m33 ?_ (Or.inl rfl) (repl_spec2 hps hs hb hk (by omega))
      rw [hdel, e]
      cases hl : ro l with
      | none => exact absurd (rk_n1.mpr (ro_none.mp hl)) c12
      | some y => rfl
