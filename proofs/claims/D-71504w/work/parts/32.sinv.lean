/-! THE SPEC 2: what holds of every state stays -/
set_option maxRecDepth 100000
theorem ShOk.le {h : Shf} {B B' : Int} (hh : ShOk h B) (hB : B ≤ B') : ShOk h B' := ⟨hh.1, hh.2.1, hh.2.2.1, hh.2.2.2.1.le hB, hh.2.2.2.2⟩
theorem SInv.le {s : SS} {n : Int} (h : SInv s n) (hn : n + 1 ≤ 64) : SInv s (n + 1) := by
  obtain ⟨h1, h2, h3, h4, h5, h6, h7, h8⟩ := h
  exact ⟨h1, h2, by omega, h4, h5.le (by omega), fun z => ⟨(h6 z).1, (h6 z).2.le (by omega)⟩, h7, by omega⟩
theorem SInv.setC {s : SS} {n : Int} {h' : Shf} (h : SInv s n) (hn : n + 1 ≤ 64) (h0 : ¬ sSh s = 0 ∨ tl h'.1.1 = tl (sC s).1.1) (hh : ShOk h' (4000 * (n + 1))) : SInv (setC s h') (n + 1) := by
  obtain ⟨h1, h2, h3, h4, h5, h6, h7, h8⟩ := h.le hn
  refine ⟨h1, h2, h3, ?_, hh, h6, h7, h8⟩
  rcases h4 with ⟨a1, a2, a3, a4⟩ | h4
  · exact Or.inl ⟨a1, a2, (h0.resolve_left (fun z => z a1)).trans a3, a4⟩
  · exact Or.inr h4
theorem SInv.setPg {s : SS} {n : Int} {g : Int → Int} {m : Int} (h : SInv s n) (hn : n + 1 ≤ 64) (hg : ∀ i, 0 ≤ g i ∧ g i ≤ 126) (hm : 0 ≤ m ∧ m ≤ 54) : SInv (setPg s g m) (n + 1) := by
  obtain ⟨h1, h2, h3, h4, h5, h6, h7, h8⟩ := h.le hn
  exact ⟨hg, hm, h3, h4, h5, h6, h7, h8⟩
theorem i_letter {s : SS} {n c : Int} (h : SInv s n) (hn : n + 1 ≤ 64) : SInv (oLetter s c).2 (n + 1) := by
  have h2 := h.2.1
  unfold oLetter
  by_cases c1 : ¬ (1 ≤ c ∧ c ≤ 126)
  · rw [if_pos c1]; exact h.le hn
  · rw [if_neg c1]
    by_cases c2 : sPn s = 54
    · rw [if_pos c2]; exact h.le hn
    · rw [if_neg c2]
      refine h.setPg hn (fun i => ?_) (by omega)
      split
      · omega
      · exact h.1 i
theorem i_blank {s : SS} {n : Int} (h : SInv s n) (hn : n + 1 ≤ 64) : SInv (oBlank s).2 (n + 1) := h.setPg hn h.1 (by decide)
theorem i_see {s : SS} {n key what could : Int} (h : SInv s n) (hn : n + 1 ≤ 64) (hc : could = 0 ∨ could = 1) : SInv (oSee s key what could).2 (n + 1) := by
  unfold oSee
  by_cases c1 : ¬ ((0 ≤ key ∧ key ≤ 99) ∧ (0 ≤ what ∧ what ≤ 3))
  · rw [if_pos c1]; exact h.le hn
  · rw [if_neg c1]
    by_cases c2 : sSh s = 0
    · rw [if_pos c2]; exact h.le hn
    · rw [if_neg c2]
      by_cases c3 : (sC s).2.2.2.2.length = 6
      · rw [if_pos c3]; exact h.le hn
      · rw [if_neg c3]
        obtain ⟨k1, k2, k3, k4, k5, k6, k7⟩ := (h.le hn).2.2.2.2.1
        refine h.setC hn (Or.inr rfl) ⟨k1, k2, k3, k4, k5, k6, fun x hx => ?_⟩
        rcases List.mem_append.mp hx with hx | hx
        · exact k7 x hx
        · rw [List.mem_singleton] at hx
          subst hx
          dsimp only
          omega
theorem i_forget {s : SS} {n : Int} (h : SInv s n) (hn : n + 1 ≤ 64) : SInv (oForget s).2 (n + 1) := by
  obtain ⟨k1, k2, k3, k4, k5, k6, k7⟩ := (h.le hn).2.2.2.2.1
  exact h.setC hn (Or.inr rfl) ⟨k1, k2, k3, k4, k5, k6, fun x hx => absurd hx List.not_mem_nil⟩
theorem i_image {s : SS} {n : Int} (h : SInv s n) (hn : n + 1 ≤ 64) : SInv (oImage s).2 (n + 1) := by
  unfold oImage
  by_cases c : sSh s = 0
  · rw [if_pos c]; exact h.le hn
  · rw [if_neg c]
    obtain ⟨h1, h2, h3, h4, h5, h6, h7, h8⟩ := h.le hn
    exact ⟨h1, h2, h3, h4, h5, fun _ => ⟨by show 0 < sSh s; omega, h5⟩, by show -1 ≤ sSh s ∧ sSh s ≤ sSh s; omega, h8⟩
theorem i_restore {s : SS} {n : Int} (h : SInv s n) (hn : n + 1 ≤ 64) : SInv (oRestore s).2 (n + 1) := by
  unfold oRestore
  by_cases c : ¬ (sKn s = sSh s)
  · rw [if_pos c]; exact h.le hn
  · rw [if_neg c]
    have c : sKn s = sSh s := Classical.byContradiction c
    have k := (h.le hn).2.2.2.2.2.1 c
    exact h.setC hn (Or.inl (by omega)) k.2
theorem i_put {s : SS} {n kind key v : Int} (h : SInv s n) (hn : n + 1 ≤ 64) : SInv (oPut s kind key v).2 (n + 1) := by
  unfold oPut
  by_cases c1 : ¬ ((0 ≤ kind ∧ kind ≤ 4) ∧ (0 ≤ key ∧ key ≤ 99) ∧ (0 ≤ v ∧ v ≤ 999))
  · rw [if_pos c1]; exact h.le hn
  · rw [if_neg c1]
    by_cases c2 : sSh s = 0 ∨ (there s key ∧ (sC s).2.1 key.toNat = 4)
    · rw [if_pos c2]; exact h.le hn
    · rw [if_neg c2]
      have hs : ¬ sSh s = 0 := fun z => c2 (Or.inl z)
      have hk := h.2.2.2.2.1
      have h8 := h.2.2.2.2.2.2.2
      by_cases c3 : there s key
      · rw [if_pos c3]
        obtain ⟨k1, k2, k3, k4, k5, k6, k7⟩ := (h.le hn).2.2.2.2.1
        refine h.setC hn (Or.inl hs) ⟨k1, k2, k3, k4, fun x hx => ?_, k6, k7⟩
        have := k5 x hx
        show (0 ≤ (if x = key.toNat then kind else (sC s).2.1 x) ∧ (if x = key.toNat then kind else (sC s).2.1 x) ≤ 4) ∧ (0 ≤ (if x = key.toNat then v else (sC s).2.2.1 x) ∧ (if x = key.toNat then v else (sC s).2.2.1 x) ≤ 999)
        by_cases c : x = key.toNat
        · rw [if_pos c, if_pos c]; omega
        · rw [if_neg c, if_neg c]; exact this
      · rw [if_neg c3]
        by_cases c4 : tz (sC s).1.1 = 40
        · rw [if_pos c4]; exact h.le hn
        · rw [if_neg c4]
          have hr := h.rat hs
          exact h.setC hn (Or.inl hs) ((hk.put (by omega) (fun z => c3 ⟨by omega, z⟩) (by omega) (by have := hk.2.2.1; omega) hr.2 (by omega) (by omega)).le (by omega))
theorem ShOk.take {a b fee B : Int} {h : Shf} {k : Nat} (hh : ShOk h B) (hB : 0 ≤ B) (hk : k ∈ tl h.1.1) (hf : 0 ≤ fee ∧ fee ≤ 9) : ShOk (shTake a b fee h k) (B + 450) := by
  obtain ⟨h1, h2, h3, h4, h5, h6, h7⟩ := hh
  have et : tl (shTake a b fee h k).1.1 = tl (del h.1.1 k) := levR_tl
  have hm : ∀ x, x ∈ tl (shTake a b fee h k).1.1 → x ∈ tl h.1.1 := by
    intro x hx
    rw [et] at hx
    exact ((del_mem h1).mp hx).1
  have e1 := del_tz h1 hk
  refine ⟨?_, fun x hx => h2 x (hm x hx), by rw [tz_tl et]; omega, teLeave_B h4 hB h3 (by omega) hf, fun x hx => h5 x (hm x hx), h6.take h1 hk (h2 k hk), h7⟩
  have := del_srt (k := k) h1
  unfold Srt at this ⊢
  rw [et]
  exact this
theorem there_sh {s : SS} {n key : Int} (h : SInv s n) (ht : there s key) : ¬ sSh s = 0 := by
  intro z
  rcases h.2.2.2.1 with ⟨a1, a2, a3, a4⟩ | ⟨a1, a2⟩
  · have := ht.2
    rw [a3] at this
    exact absurd this List.not_mem_nil
  · omega
theorem i_take {s : SS} {n key : Int} (h : SInv s n) (hn : n + 1 ≤ 64) : SInv (oTake s key).2 (n + 1) := by
  unfold oTake
  by_cases c1 : there s key
  · rw [if_pos c1]
    by_cases c2 : (sC s).2.1 key.toNat = 1 ∨ (sC s).2.1 key.toNat = 4
    · rw [if_pos c2]; exact h.le hn
    · rw [if_neg c2]
      have hs := there_sh h c1
      have h8 := h.2.2.2.2.2.2.2
      exact h.setC hn (Or.inl hs) ((h.2.2.2.2.1.take (by omega) c1.2 (h.rat hs).2).le (by omega))
  · rw [if_neg c1]; exact h.le hn
theorem i_tell {s : SS} {n key : Int} (h : SInv s n) (hn : n + 1 ≤ 64) : SInv (oTell s key).2 (n + 1) := by
  unfold oTell
  by_cases c1 : there s key
  · rw [if_pos c1]
    have hs := there_sh h c1
    have h8 := h.2.2.2.2.2.2.2
    by_cases c2 : (sC s).2.1 key.toNat = 3
    · rw [if_pos c2]
      exact h.setC hn (Or.inl hs) ((h.2.2.2.2.1.take (by omega) c1.2 (h.rat hs).2).le (by omega))
    · rw [if_neg c2]
      by_cases c3 : (sC s).2.1 key.toNat = 2 ∧ (sC s).2.2.1 key.toNat < 999
      · rw [if_pos c3]
        obtain ⟨k1, k2, k3, k4, k5, k6, k7⟩ := (h.le hn).2.2.2.2.1
        have kk := k5 _ c1.2
        refine h.setC hn (Or.inl hs) ⟨k1, k2, k3, k4, fun x hx => ?_, k6, k7⟩
        have := k5 x hx
        refine ⟨this.1, ?_⟩
        show 0 ≤ (if x = key.toNat then (sC s).2.2.1 key.toNat + 1 else (sC s).2.2.1 x) ∧ (if x = key.toNat then (sC s).2.2.1 key.toNat + 1 else (sC s).2.2.1 x) ≤ 999
        by_cases c : x = key.toNat
        · rw [if_pos c]; omega
        · rw [if_neg c]; exact this.2
      · rw [if_neg c3]; exact h.le hn
  · rw [if_neg c1]; exact h.le hn
theorem i_flatten {s : SS} {n : Int} (h : SInv s n) (hn : n + 1 ≤ 64) : SInv (oFlatten s).2 (n + 1) := by
  unfold oFlatten
  by_cases c1 : sSh s = 0
  · rw [if_pos c1]; exact h.le hn
  · rw [if_neg c1]
    by_cases c2 : tz (sC s).1.1 = 0
    · dsimp only; rw [if_pos c2]; exact h.le hn
    · dsimp only
      rw [if_neg c2]
      have h8 := h.2.2.2.2.2.2.2
      obtain ⟨k1, k2, k3, ⟨b1, b2, b3, b4, b5⟩, k5, k6, k7⟩ := h.2.2.2.2.1
      have et : tl (flat (sC s).1.1) = tl (sC s).1.1 := flat_tl _
      have hp := payN_r (so := 0 - (tz (sC s).1.1 : Int)) (C := 40) b4 b5 (by omega)
      refine h.setC hn (Or.inl c1) ⟨?_, ?_, ?_, ⟨b1, ?_, ?_, ?_, ?_⟩, ?_, ?_, k7⟩
      · show List.Pairwise _ (tl (flat (sC s).1.1))
        rw [et]; exact k1
      · show ∀ k ∈ tl (flat (sC s).1.1), k < 100
        rw [et]; exact k2
      · show tz (flat (sC s).1.1) ≤ 40
        rw [tz_tl et]; exact k3
      · show 0 ≤ (sC s).1.2.2.1 + 1 ∧ (sC s).1.2.2.1 + 1 ≤ _
        omega
      · show 0 ≤ (sC s).1.2.2.2.1 + (tz (sC s).1.1 : Int) ∧ (sC s).1.2.2.2.1 + (tz (sC s).1.1 : Int) ≤ _
        omega
      · show _ ≤ (payN (sC s).1.2.2.2.2 (0 - (tz (sC s).1.1 : Int))).1 ∧ (payN (sC s).1.2.2.2.2 (0 - (tz (sC s).1.1 : Int))).1 ≤ _
        omega
      · show _ ≤ (payN (sC s).1.2.2.2.2 (0 - (tz (sC s).1.1 : Int))).2 ∧ (payN (sC s).1.2.2.2.2 (0 - (tz (sC s).1.1 : Int))).2 ≤ _
        omega
      · show ∀ k ∈ tl (flat (sC s).1.1), _
        rw [et]; exact k5
      · refine ⟨k6.1, fun z => ?_⟩
        show List.Perm _ (tl (flat (sC s).1.1))
        rw [et]; exact k6.2 z
theorem i_shelf {s : SS} {n : Int} (h : SInv s n) (hn : n + 1 ≤ 64) : SInv (oShelf s).2 (n + 1) := by
  by_cases c : PageOk (sPg s) (sPn s)
  · have e : oShelf s = _ := if_pos c
    rw [e]
    obtain ⟨P1, ⟨P2, P3, P4, P5⟩, P6⟩ := c
    have G1 : isRat (sPg s 0 - 48) (sPg s 1 - 48) := P4 1 (by omega) (by omega)
    have G3 : 49 ≤ sPg s 3 ∧ sPg s 3 ≤ 57 := P4 3 (by omega) (by omega)
    obtain ⟨h1, h2, h3, h4, h5, h6, h7, h8⟩ := h
    have eqq : ((((sPn s - 4) / 6).toNat : Nat) : Int) = (sPn s - 4) / 6 := by omega
    have ok := (shN_ok (g := sPg s) (a := sPg s 0 - 48) (b := sPg s 1 - 48) (fee := sPg s 3 - 48) (by omega) ((sPn s - 4) / 6).toNat (by omega) (fun i hi => EOk_of (fun k k0 k1 => P4 k k0 (by omega)))).1
    refine ⟨h1, show 0 ≤ (0 : Int) ∧ (0 : Int) ≤ 54 by decide, ?_, Or.inr ⟨?_, G1, ?_⟩, ok.le (by omega), fun z => ?_, ?_, by omega⟩
    · show 0 ≤ sSh s + 1 ∧ sSh s + 1 ≤ n + 1
      omega
    · show 0 < sSh s + 1
      omega
    · show 0 ≤ sPg s 3 - 48 ∧ sPg s 3 - 48 ≤ 9
      omega
    · exfalso
      have z : sKn s = sSh s + 1 := z
      omega
    · show -1 ≤ sKn s ∧ sKn s ≤ sSh s + 1
      omega
  · have e : oShelf s = (-103, s) := if_neg c
    rw [e]
    exact h.le hn
def ss0 : SS := (fun _ => 0, 0, 0, 0, 0, 0, sh0, -1, sh0)
theorem i_start : SInv ss0 0 := by
  refine ⟨fun _ => show 0 ≤ (0 : Int) ∧ (0 : Int) ≤ 126 by decide, by decide, by decide, Or.inl ⟨rfl, rfl, rfl, rfl, rfl⟩, sh0_ok, fun z => ?_, by decide, by decide⟩
  exact absurd z (by decide)
theorem m_start : MRel sI1 ss0 := by
  refine ⟨fun _ => rfl, rfl, rfl, rfl, rfl, rfl, ⟨⟨⟨trivial, rfl, fun k hk => ?_, List.Pairwise.nil, fun k hk => absurd hk List.not_mem_nil, Nat.zero_le _⟩, rfl, rfl, rfl, rfl, fun _ => rfl⟩, fun k hk => absurd hk List.not_mem_nil, ⟨rfl, Nat.zero_le _, fun i hi => absurd hi (Nat.not_lt_zero _)⟩, ⟨rfl, Nat.zero_le _, fun i hi => absurd hi (Nat.not_lt_zero _)⟩⟩, rfl, fun z => absurd z (by decide)⟩
  rfl
