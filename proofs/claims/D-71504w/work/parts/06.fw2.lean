/-! FRAMEWORK 2: heap rows, calls -/
set_option maxRecDepth 100000
section VH
variable {Γ : GX} {k n : Nat} {hp : AH} {pc n' : Nat} {L : List (Option Value)} {st : List Value} {cc : ByteArray} {own : String} {ret : Option FieldType} {R : Room}
theorem v_get (h : Ok0 cc own ret R Γ) {ci N i a : Nat} {C ref : String} {T : u_T} {fs : List Value} {v : Value} (hc : CL[ci]? = some (C, T, N)) (hin : ∀ w ∈ u_ws C T N, w ∈ lw_all) (f : Nat) (hf : f < N) (hw : Cond.fieldLink own i ref (T f).2.1 (T f).2.2.1 ∈ lw_all) (hs : ref = (T f).1) (d : decode cc pc = .ok (.getfield i, 3)) (hn : pc + 3 = n') (he : hp a = some (.inr (ci, fs))) (hv : fs[f]? = some v) (kk : V Γ k n hp n' L (v :: st)) : V Γ k n hp pc L (.ref a :: st) := fun H locs ls a1 a2 a3 a4 => by
  subst hn
  exact va_get h.1 h.2.1 h.2.2.2.2.2.1 hin h.2.2.2.2.1 h.2.2.2.2.2.2.1.1 (a1.P he) 0 rfl hc f hf (h.2.2.2.2.2.1 _ hw) (fun x hx => by rw [hs]; exact hx) hv d (kk H locs ls a1 a2 a3 a4)
theorem v_getN (h : Ok0 cc own ret R Γ) {ci N i a : Nat} {C ref host : String} {T : u_T} {fs : List Value} {v : Value} (hc : CL[ci]? = some (C, T, N)) (hin : ∀ w ∈ u_ws C T N, w ∈ lw_all) (f : Nat) (hf : f < N) (hw : Cond.fieldLinkNest own i ref (T f).2.1 (T f).2.2.1 host ∈ lw_tbl) (hs : ref = (T f).1) (d : decode cc pc = .ok (.getfield i, 3)) (hn : pc + 3 = n') (he : hp a = some (.inr (ci, fs))) (hv : fs[f]? = some v) (kk : V Γ k n hp n' L (v :: st)) : V Γ k n hp pc L (.ref a :: st) := fun H locs ls a1 a2 a3 a4 => by
  subst hn
  exact va_getN h.1 h.2.1 h.2.2.2.2.2.1 hin h.2.2.2.2.1 h.2.2.2.2.2.2.1.1 (a1.P he) 0 rfl hc f hf (va_Nw.use rfl (h.2.2.2.2.2.2.1.2.1 _ hw rfl)) (fun x hx => by rw [hs]; exact hx) hv d (kk H locs ls a1 a2 a3 a4)
theorem v_put (h : Ok0 cc own ret R Γ) {ci N i a : Nat} {C ref : String} {T : u_T} {fs : List Value} {v : Value} (hc : CL[ci]? = some (C, T, N)) (hin : ∀ w ∈ u_ws C T N, w ∈ lw_all) (ty0 : Nat → FieldType) (hty : ∀ k, k < N → parseFieldDescriptor (T k).2.2.1 = some (ty0 k)) (hnm : ∀ a, a < N → ∀ b, b < N → a ≠ b → (T a).2.1 ≠ (T b).2.1) (f : Nat) (hf : f < N) (hw : Cond.fieldLink own i ref (T f).2.1 (T f).2.2.1 ∈ lw_all) (hs : ref = (T f).1) (hfin : (T f).2.2.2 = false) (d : decode cc pc = .ok (.putfield i, 3)) (hn : pc + 3 = n') (he : hp a = some (.inr (ci, fs))) (hl : f < fs.length) (hnr : narrow (ty0 f) v = v) (hfit : fits (ty0 f) v = true) (kk : V Γ k n (upH hp a (.inr (ci, fs.set f v))) n' L st) : V Γ k n hp pc L (v :: .ref a :: st) := fun H locs ls a1 a2 a3 a4 => by
  subst hn
  subst hs
  have hts := h.2.2.2.2.2.1
  have hK := h.2.2.2.2.2.2.1.1
  have hap := va_apart (own := own) hts hin ty0 hty hnm hK hc
  obtain ⟨r, h1, cell, q1, q2, q3, q4⟩ := a1 a _ he
  have hr : r = (C, T, N) := Option.some.inj (h1.symm.trans hc)
  subst hr
  obtain ⟨hS, hfc, kC, hkC, hkind⟩ := hK.1 ci _ hc
  obtain ⟨cf, kf, fi, fd, hi, hsl⟩ := hS f hf
  have hlay := hts _ (hin _ (u_in_lay hf))
  unfold u_lay at hlay
  rw [if_neg (by rw [hfin]; decide)] at hlay
  have hst := (u_facts hfc hkC (u_lays hts hin hf) hi).1
  have h6 := u_store hfc hkC hkind hlay hi (hty f hf) hnr hfit
  refine W.putK h.1 h.2.1 (f := fd) ⟨h.2.2.2.2.1, hts _ hw, ⟨_, _, _, hi⟩, hst⟩ (by rw [q2]; exact h6) q1 q3 (by rw [hsl]; exact k2_hasslot (q4 f hf)) rfl rfl d fun H' e1 e2 e3 => ?_
  rw [hsl] at e1 ⊢
  have hA : gA Γ a := a2 a (by rw [he]; exact fun z => by cases z)
  refine kk H' _ ls (a1.up ⟨_, hc, t_OB.to (V := updV (vp_V fs) f v) ⟨_, e1, q2, q3, t_set q4 hap hf v⟩ (fun j _ => vp_updV_set hl v j)⟩ (fun q c _ => e3 q c)) (fun q hq => ?_) (a3.put e2 e3 hA) a4
  by_cases c : q = a
  · rw [c]; exact hA
  · rw [upH_n c] at hq
    exact a2 q hq
theorem v_putN (h : Ok0 cc own ret R Γ) {ci N i a : Nat} {C ref host : String} {T : u_T} {fs : List Value} {v : Value} (hc : CL[ci]? = some (C, T, N)) (hin : ∀ w ∈ u_ws C T N, w ∈ lw_all) (ty0 : Nat → FieldType) (hty : ∀ k, k < N → parseFieldDescriptor (T k).2.2.1 = some (ty0 k)) (hnm : ∀ a, a < N → ∀ b, b < N → a ≠ b → (T a).2.1 ≠ (T b).2.1) (f : Nat) (hf : f < N) (hw : Cond.fieldLinkNest own i ref (T f).2.1 (T f).2.2.1 host ∈ lw_tbl) (hs : ref = (T f).1) (hfin : (T f).2.2.2 = false) (d : decode cc pc = .ok (.putfield i, 3)) (hn : pc + 3 = n') (he : hp a = some (.inr (ci, fs))) (hl : f < fs.length) (hnr : narrow (ty0 f) v = v) (hfit : fits (ty0 f) v = true) (kk : V Γ k n (upH hp a (.inr (ci, fs.set f v))) n' L st) : V Γ k n hp pc L (v :: .ref a :: st) := fun H locs ls a1 a2 a3 a4 => by
  subst hn
  subst hs
  have hts := h.2.2.2.2.2.1
  have hK := h.2.2.2.2.2.2.1.1
  have hap := va_apart (own := own) hts hin ty0 hty hnm hK hc
  obtain ⟨r, h1, cell, q1, q2, q3, q4⟩ := a1 a _ he
  have hr : r = (C, T, N) := Option.some.inj (h1.symm.trans hc)
  subst hr
  obtain ⟨hS, hfc, kC, hkC, hkind⟩ := hK.1 ci _ hc
  obtain ⟨cf, kf, fi, fd, hi, hsl⟩ := hS f hf
  have hlay := hts _ (hin _ (u_in_lay hf))
  unfold u_lay at hlay
  rw [if_neg (by rw [hfin]; decide)] at hlay
  have hst := (u_facts hfc hkC (u_lays hts hin hf) hi).1
  have h6 := u_store hfc hkC hkind hlay hi (hty f hf) hnr hfit
  refine va_WputK h.1 h.2.1 (f := fd) h.2.2.2.2.1 (va_Nw.use rfl (h.2.2.2.2.2.2.1.2.1 _ hw rfl)) hi hst (by rw [q2]; exact h6) q1 q3 (by rw [hsl]; exact k2_hasslot (q4 f hf)) rfl rfl d fun H' e1 e2 e3 => ?_
  rw [hsl] at e1 ⊢
  have hA : gA Γ a := a2 a (by rw [he]; exact fun z => by cases z)
  refine kk H' _ ls (a1.up ⟨_, hc, t_OB.to (V := updV (vp_V fs) f v) ⟨_, e1, q2, q3, t_set q4 hap hf v⟩ (fun j _ => vp_updV_set hl v j)⟩ (fun q c _ => e3 q c)) (fun q hq => ?_) (a3.put e2 e3 hA) a4
  by_cases c : q = a
  · rw [c]; exact hA
  · rw [upH_n c] at hq
    exact a2 q hq
theorem v_putF (h : Ok0 cc own ret R Γ) {ci N i a : Nat} {C ref : String} {T : u_T} {fs : List Value} {v : Value} (hc : CL[ci]? = some (C, T, N)) (hin : ∀ w ∈ u_ws C T N, w ∈ lw_all) (ty0 : Nat → FieldType) (hty : ∀ k, k < N → parseFieldDescriptor (T k).2.2.1 = some (ty0 k)) (hnm : ∀ a, a < N → ∀ b, b < N → a ≠ b → (T a).2.1 ≠ (T b).2.1) (f : Nat) (hf : f < N) (hw : Cond.fieldLink own i ref (T f).2.1 (T f).2.2.1 ∈ lw_all) (hs : ref = (T f).1) (hfin : (T f).2.2.2 = true) (hini : (gMt Γ).name = "<init>") (hdecl : (T f).1 = own) (d : decode cc pc = .ok (.putfield i, 3)) (hn : pc + 3 = n') (he : hp a = some (.inr (ci, fs))) (hl : f < fs.length) (hnr : narrow (ty0 f) v = v) (hfit : fits (ty0 f) v = true) (kk : V Γ k n (upH hp a (.inr (ci, fs.set f v))) n' L st) : V Γ k n hp pc L (v :: .ref a :: st) := fun H locs ls a1 a2 a3 a4 => by
  subst hn
  subst hs
  have hts := h.2.2.2.2.2.1
  have hK := h.2.2.2.2.2.2.1.1
  have hown := h.2.2.2.2.1
  have hap := va_apart (own := own) hts hin ty0 hty hnm hK hc
  obtain ⟨r, h1, cell, q1, q2, q3, q4⟩ := a1 a _ he
  have hr : r = (C, T, N) := Option.some.inj (h1.symm.trans hc)
  subst hr
  obtain ⟨hS, hfc, kC, hkC, hkind⟩ := hK.1 ci _ hc
  obtain ⟨cf, kf, fi, fd, hi, hsl⟩ := hS f hf
  have hlay := hts _ (hin _ (u_in_lay hf))
  unfold u_lay at hlay
  rw [if_pos hfin] at hlay
  have hst := (u_facts hfc hkC (u_lays hts hin hf) hi).1
  have hcf : (gM Γ).cls = cf := by
    obtain ⟨_, _, c', _, _, _, -, -, hf', -, -, -, hown2, -⟩ := Cond.laysFinal_spec hlay
    have e1 : c' = cf := by have := hi.symm.trans hf'; simp at this; exact this.1.symm
    rw [hdecl] at hown2
    rw [← e1]; exact Option.some.inj (hown.symm.trans hown2)
  have h6 := u_fits hfc hkC hkind (Or.inr hlay) hi (hty f hf) hnr hfit
  refine W.putFinK h.1 h.2.1 hown (hts _ hw) hi hst hcf hini (by rw [q2]; exact h6) q1 q3 (by rw [hsl]; exact k2_hasslot (q4 f hf)) rfl rfl d fun H' e1 e2 e3 => ?_
  rw [hsl] at e1 ⊢
  have hA : gA Γ a := a2 a (by rw [he]; exact fun z => by cases z)
  refine kk H' _ ls (a1.up ⟨_, hc, t_OB.to (V := updV (vp_V fs) f v) ⟨_, e1, q2, q3, t_set q4 hap hf v⟩ (fun j _ => vp_updV_set hl v j)⟩ (fun q c _ => e3 q c)) (fun q hq => ?_) (a3.put e2 e3 hA) a4
  by_cases c : q = a
  · rw [c]; exact hA
  · rw [upH_n c] at hq
    exact a2 q hq
/-! arrays: tag 0 int, 1 byte, 2 boolean, 3 references -/
theorem v_iald (h : Ok0 cc own ret R Γ) {a N : Nat} {f : Nat → Int32} {i : Int} (d : decode cc pc = .ok (.iaload, 1)) (hn : pc + 1 = n') (he : hp a = some (.inl (0, N, .inl f))) (hi : 0 ≤ i ∧ i < N) (hi2 : i ≤ 2147483647) (kk : V Γ k n hp n' L (.int (f i.toNat) :: st)) : V Γ k n hp pc L (.int (iI i) :: .ref a :: st) := fun H locs ls a1 a2 a3 a4 => by
  subst hn
  have q := kk H locs ls a1 a2 a3 a4
  rw [← iI_clamp ⟨hi.1, hi2⟩] at q
  exact va_iald h.1 h.2.1 h.2.2.2.2.2.2.1.1 (a1.P he) 0 0 rfl rfl (iI_in hi hi2) d q
theorem v_bald (h : Ok0 cc own ret R Γ) {a N : Nat} {f : Nat → Int32} {i : Int} (d : decode cc pc = .ok (.baload, 1)) (hn : pc + 1 = n') (he : hp a = some (.inl (1, N, .inl f))) (hi : 0 ≤ i ∧ i < N) (hi2 : i ≤ 2147483647) (kk : V Γ k n hp n' L (.int (f i.toNat) :: st)) : V Γ k n hp pc L (.int (iI i) :: .ref a :: st) := fun H locs ls a1 a2 a3 a4 => by
  subst hn
  have q := kk H locs ls a1 a2 a3 a4
  rw [← iI_clamp ⟨hi.1, hi2⟩] at q
  exact va_bald h.1 h.2.1 h.2.2.2.2.2.2.1.1 (a1.P he) 0 1 rfl rfl (iI_in hi hi2) d q
theorem v_zald (h : Ok0 cc own ret R Γ) {a N : Nat} {f : Nat → Int32} {i : Int} (d : decode cc pc = .ok (.baload, 1)) (hn : pc + 1 = n') (he : hp a = some (.inl (2, N, .inl f))) (hi : 0 ≤ i ∧ i < N) (hi2 : i ≤ 2147483647) (kk : V Γ k n hp n' L (.int (f i.toNat) :: st)) : V Γ k n hp pc L (.int (iI i) :: .ref a :: st) := fun H locs ls a1 a2 a3 a4 => by
  subst hn
  have q := kk H locs ls a1 a2 a3 a4
  rw [← iI_clamp ⟨hi.1, hi2⟩] at q
  exact va_zald h.1 h.2.1 h.2.2.2.2.2.2.1.1 (a1.P he) 0 2 rfl rfl (iI_in hi hi2) d q
theorem v_aald (h : Ok0 cc own ret R Γ) {a N : Nat} {f : Nat → Option Nat} {i : Int} (d : decode cc pc = .ok (.aaload, 1)) (hn : pc + 1 = n') (he : hp a = some (.inl (3, N, .inr (.inr (.inr (.inr f)))))) (hi : 0 ≤ i ∧ i < N) (hi2 : i ≤ 2147483647) (kk : V Γ k n hp n' L (va_rf (f i.toNat) :: st)) : V Γ k n hp pc L (.int (iI i) :: .ref a :: st) := fun H locs ls a1 a2 a3 a4 => by
  subst hn
  have q := kk H locs ls a1 a2 a3 a4
  rw [← iI_clamp ⟨hi.1, hi2⟩] at q
  exact va_aldq h.1 h.2.1 h.2.2.2.2.2.2.1.1 (a1.P he) 0 3 rfl rfl (iI_in hi hi2) d q
theorem v_alen (h : Ok0 cc own ret R Γ) {a t : Nat} {x : vp_A} (d : decode cc pc = .ok (.arraylength, 1)) (hn : pc + 1 = n') (he : hp a = some (.inl (t, x))) (ht : t < 4) (kk : V Γ k n hp n' L (.int (iI (x.1 : Int)) :: st)) : V Γ k n hp pc L (.ref a :: st) := fun H locs ls a1 a2 a3 a4 => by
  subst hn
  have q := kk H locs ls a1 a2 a3 a4
  have hP := a1.P he
  match t, ht with
  | 0, _ => exact va_alen h.1 h.2.1 h.2.2.2.2.2.2.1.1 hP 0 0 rfl rfl rfl d q
  | 1, _ => exact va_alen h.1 h.2.1 h.2.2.2.2.2.2.1.1 hP 0 1 rfl rfl rfl d q
  | 2, _ => exact va_alen h.1 h.2.1 h.2.2.2.2.2.2.1.1 hP 0 2 rfl rfl rfl d q
  | 3, _ => exact va_alen h.1 h.2.1 h.2.2.2.2.2.2.1.1 hP 0 3 rfl rfl rfl d q
theorem up_dom {a : Nat} {e : va_E} {A : Nat → Prop} (hA : A a) (a2 : ∀ q, hp q ≠ none → A q) : ∀ q, upH hp a e q ≠ none → A q := by
  intro q hq
  by_cases c : q = a
  · rw [c]; exact hA
  · rw [upH_n c] at hq
    exact a2 q hq
theorem v_iast (h : Ok0 cc own ret R Γ) {a N : Nat} {f : Nat → Int32} {i : Int} {x : Int32} (d : decode cc pc = .ok (.iastore, 1)) (hn : pc + 1 = n') (he : hp a = some (.inl (0, N, .inl f))) (hi : 0 ≤ i ∧ i < N) (hi2 : i ≤ 2147483647) (kk : V Γ k n (upH hp a (.inl (0, N, .inl (upd f i.toNat x)))) n' L st) : V Γ k n hp pc L (.int x :: .int (iI i) :: .ref a :: st) := fun H locs ls a1 a2 a3 a4 => by
  subst hn
  have hA : gA Γ a := a2 a (by rw [he]; exact fun z => by cases z)
  have hK := h.2.2.2.2.2.2.1.1
  refine W.iast h.1 h.2.1 (a1 a _ he) ((hK.2 0 _ rfl).1 N (fun j => .int (f j))) (fun q => by cases q) (by show ¬ (iI i < 0 ∨ (arrV _ _ _).slots.size ≤ _); rw [arrV_size]; exact iI_in hi hi2) rfl rfl d fun H1 e z oq => ?_
  refine kk H1 _ ls (a1.up ?_ (fun q c _ => oq q c)) (up_dom hA a2) (a3.put z oq hA) a4
  show H1[a]? = some (vp_cell _ _)
  rw [e, vp_cell_i]
  show _ = some (vp_cell _ (N, .inl (upd f i.toNat x)))
  rw [vp_cell_i, arrV_store, iI_clamp ⟨hi.1, hi2⟩]
  congr 2
  funext q
  by_cases hq : q = i.toNat
  · subst hq
    simp [updV, upd]
  · simp [updV, upd, hq]
theorem v_bast (h : Ok0 cc own ret R Γ) {a N : Nat} {f : Nat → Int32} {i : Int} {x : Int32} (d : decode cc pc = .ok (.bastore, 1)) (hn : pc + 1 = n') (he : hp a = some (.inl (1, N, .inl f))) (hi : 0 ≤ i ∧ i < N) (hi2 : i ≤ 2147483647) (hx : narrow .byte (.int x) = .int x) (kk : V Γ k n (upH hp a (.inl (1, N, .inl (upd f i.toNat x)))) n' L st) : V Γ k n hp pc L (.int x :: .int (iI i) :: .ref a :: st) := fun H locs ls a1 a2 a3 a4 => by
  subst hn
  have hA : gA Γ a := a2 a (by rw [he]; exact fun z => by cases z)
  have hK := h.2.2.2.2.2.2.1.1
  refine W.bast h.1 h.2.1 (a1 a _ he) ((hK.2 1 _ rfl).1 N (fun j => .int (f j))) (fun q => by cases q) (by show ¬ (iI i < 0 ∨ (arrV _ _ _).slots.size ≤ _); rw [arrV_size]; exact iI_in hi hi2) rfl rfl d fun H1 e z oq => ?_
  refine kk H1 _ ls (a1.up ?_ (fun q c _ => oq q c)) (up_dom hA a2) (a3.put z oq hA) a4
  show H1[a]? = some (vp_cell _ _)
  rw [e, vp_cell_i]
  show _ = some (vp_cell _ (N, .inl (upd f i.toNat x)))
  rw [vp_cell_i, arrV_store, iI_clamp ⟨hi.1, hi2⟩, hx]
  congr 2
  funext q
  by_cases hq : q = i.toNat
  · subst hq
    simp [updV, upd]
  · simp [updV, upd, hq]
theorem v_zast (h : Ok0 cc own ret R Γ) {a N : Nat} {f : Nat → Int32} {i : Int} {x : Int32} (d : decode cc pc = .ok (.bastore, 1)) (hn : pc + 1 = n') (he : hp a = some (.inl (2, N, .inl f))) (hi : 0 ≤ i ∧ i < N) (hi2 : i ≤ 2147483647) (hx : narrow .boolean (.int x) = .int x) (kk : V Γ k n (upH hp a (.inl (2, N, .inl (upd f i.toNat x)))) n' L st) : V Γ k n hp pc L (.int x :: .int (iI i) :: .ref a :: st) := fun H locs ls a1 a2 a3 a4 => by
  subst hn
  have hA : gA Γ a := a2 a (by rw [he]; exact fun z => by cases z)
  have hK := h.2.2.2.2.2.2.1.1
  refine W.zast h.1 h.2.1 (a1 a _ he) ((hK.2 2 _ rfl).1 N (fun j => .int (f j))) (fun q => by cases q) (by show ¬ (iI i < 0 ∨ (arrV _ _ _).slots.size ≤ _); rw [arrV_size]; exact iI_in hi hi2) rfl rfl d fun H1 e z oq => ?_
  refine kk H1 _ ls (a1.up ?_ (fun q c _ => oq q c)) (up_dom hA a2) (a3.put z oq hA) a4
  show H1[a]? = some (vp_cell _ _)
  rw [e, vp_cell_i]
  show _ = some (vp_cell _ (N, .inl (upd f i.toNat x)))
  rw [vp_cell_i, arrV_store, iI_clamp ⟨hi.1, hi2⟩, hx]
  congr 2
  funext q
  by_cases hq : q = i.toNat
  · subst hq
    simp [updV, upd]
  · simp [updV, upd, hq]
/-- a new cell: fresh, its address at the heap's end -/
theorem new_dom {a : Nat} {e : va_E} {D : DD} {H H1 : Heap} (a1 : HW D hp H) (ha : a = H.size) (he : va_at D.1 CL (a, tgE D e) H1) (o1 : ∀ q, q < a → H1[q]? = H[q]?) : HW D (upH hp a e) H1 ∧ hp a = none := by
  subst ha
  refine ⟨a1.up he (fun q _ h => o1 q h), ?_⟩
  cases hq : hp H.size with
  | none => rfl
  | some e => exact absurd (a1.lt hq) (Nat.lt_irrefl _)
theorem v_newa (h : Ok0 cc own ret R Γ) {atype : ArrayType} {ty : FieldType} {t : Nat} {i : Int} (hty : newarray.typeOf atype = ty) (hw : Cond.arrayClass ty ∈ lw_all) (ht : (TYS (gD Γ).2.1)[t]? = some ((gD Γ).2.1 t, ty)) (hdv : defaultValue ty = .int 0) (hb : componentBytes ty ≤ 8) (hra : ∀ cA : ClassId, va_RA (gS Γ) cA ty → (gS Γ).vm.findClass ("[" ++ ty.toString) = some cA) (d : decode cc pc = .ok (.newarray atype, 2)) (hn : pc + 2 = n') (hi : 0 ≤ i ∧ i ≤ 1000) (hk : k + 1 ≤ R.cells) (hs : n + i.toNat ≤ R.slots)
    (kk : ∀ a : Nat, hp a = none → V Γ (k + 1) (n + i.toNat) (upH hp a (.inl (t, i.toNat, .inl (fun _ => 0)))) n' L (.ref a :: st)) : V Γ k n hp pc L (.int (iI i) :: st) := fun H locs ls a1 a2 a3 a4 => by
  subst hn
  subst hty
  have hK := h.2.2.2.2.2.2.1.1
  have hR := h.2.2.2.2.2.2.2.2.2
  refine va_newaK (N := i.toNat) h.1 h.2.1 (h.2.2.2.2.2.1 _ hw) rfl d rfl (by rw [← iI_0, iI_lt (by omega) (by omega)]; omega) (iI_clamp (by omega)) (Nat.le_trans (Nat.mul_le_mul (show i.toNat ≤ 1000 by omega) hb) (by decide)) (by rw [hR]; exact hk) (by rw [hR]; exact hs) rfl fun H1 cA e1 z1 o1 hAr hNm => ?_
  have hc : (gD Γ).2.1 t = cA := Option.some.inj ((hra _ (hK.2 t _ ht).2).symm.trans hNm)
  obtain ⟨b1, b2⟩ := new_dom (e := .inl (t, i.toNat, .inl (fun _ => 0))) a1 rfl (by
    show H1[H.size]? = some (vp_cell ((gD Γ).2.1 t) _)
    rw [hc, vp_cell_i, e1, hdv]) o1
  have hA : gA Γ H.size := h.2.2.2.2.2.2.2.1 _ a3.1
  exact kk H.size b2 H1 locs ls b1 (up_dom hA a2) ⟨Nat.le_trans a3.1 (by omega), fun x h1 h2 => (o1 x (Nat.lt_of_lt_of_le h1 a3.1)).trans (a3.2.1 x h1 h2), a3.2.2⟩ a4
theorem v_new (h : Ok0 cc own ret R Γ) {ci N i : Nat} {C : String} {T : u_T} (hc : CL[ci]? = some (C, T, N)) (hin : ∀ w ∈ u_ws C T N, w ∈ lw_all) (ty0 : Nat → FieldType) (hty : ∀ k, k < N → parseFieldDescriptor (T k).2.2.1 = some (ty0 k)) (hcl : Cond.classLink own i C ∈ lw_all) (hinst : Cond.instantiable C N ∈ lw_all) (hini : Cond.initialized C ∈ lw_all) {fs : List Value} (hfs : ∀ j, j < N → defaultValue (ty0 j) = vp_V fs j) (d : decode cc pc = .ok (.new i, 3)) (hn : pc + 3 = n') (hk : k + 1 ≤ R.cells) (hs : n + N ≤ R.slots)
    (kk : ∀ a : Nat, hp a = none → V Γ (k + 1) (n + N) (upH hp a (.inr (ci, fs))) n' L (.ref a :: st)) : V Γ k n hp pc L st := fun H locs ls a1 a2 a3 a4 => by
  subst hn
  have hts := h.2.2.2.2.2.1
  have hK := h.2.2.2.2.2.2.1.1
  have hR := h.2.2.2.2.2.2.2.2.2
  have hKn := hK.1 ci _ hc
  refine W.newcK h.1 h.2.1 h.2.2.2.2.1 (hts _ hcl) (hts _ hinst) (hts _ hini) rfl d (by rw [hR]; exact hk) (by rw [hR]; exact hs) hKn.2.1 rfl fun H1 kC hkC e1 z1 o1 => ?_
  obtain ⟨b1, b2⟩ := new_dom (e := .inr (ci, fs)) a1 rfl (show va_at _ CL (H.size, .inr (ci, fs)) H1 from ⟨_, hc, (u_born ty0 hts hin hKn hkC e1 hty).to hfs⟩) o1
  have hA : gA Γ H.size := h.2.2.2.2.2.2.2.1 _ a3.1
  exact kk H.size b2 H1 locs ls b1 (up_dom hA a2) ⟨Nat.le_trans a3.1 (by omega), fun x h1 h2 => (o1 x (Nat.lt_of_lt_of_le h1 a3.1)).trans (a3.2.1 x h1 h2), a3.2.2⟩ a4
theorem v_objInit (h : Ok0 cc own ret R Γ) {i a : Nat} (hl : Cond.methodLink own i Lib.objectInit ∈ lw_all) (hi : Cond.instanceMethod Lib.objectInit ∈ lw_all) (hcode : Cond.code Lib.objectInit ⟨#[0xb1]⟩ 1 none ∈ lw_all) (d : decode cc pc = .ok (.invokespecial i, 3)) (hn : pc + 3 = n') (hR : 1 ≤ R.frames ∧ 20 ≤ R.locals) (hst : (st.map fun v => v.category).sum ≤ 8) (kk : V Γ k n hp n' L st) : V Γ k n hp pc L (.ref a :: st) := fun H locs ls a1 a2 a3 a4 => by
  subst hn
  have hts := h.2.2.2.2.2.1
  have hRR := h.2.2.2.2.2.2.2.2.2
  refine W.objInit h.1 h.2.1 h.2.2.2.2.1 (hts _ hl) (hts _ hi) (hts _ hcode) rfl (by rw [h.2.2.1]; exact a4.2.1) rfl d (by rw [hRR]; exact hR.1) ?_ (kk H locs ls a1 a2 a3 a4)
  rw [hRR]
  show 2 * 0 + _ + 12 ≤ _
  omega
end VH
/-! calls -/
/-- what is there behind a call: the callee's cells as they came back, the rest as it was -/
def mrg (hp hpc hp' : AH) : AH := fun q => if hpc q = none then (match hp q with | some e => some e | none => hp' q) else hp' q
theorem mrg_self (hp hp' : AH) : mrg hp hp hp' = hp' := by
  funext q
  unfold mrg
  split
  · rename_i e; rw [e]
  · rfl
theorem mrg_out {hp hpc hp' : AH} {q : Nat} {e : va_E} (h1 : hpc q = none) (h2 : hp q = some e) : mrg hp hpc hp' q = some e := by
  unfold mrg
  rw [if_pos h1, h2]
theorem mrg_in {hp hpc hp' : AH} {q : Nat} (h1 : hpc q ≠ none) : mrg hp hpc hp' q = hp' q := by
  unfold mrg
  rw [if_neg h1]
theorem mrg_new {hp hpc hp' : AH} {q : Nat} (h1 : hp q = none) : mrg hp hpc hp' q = hp' q := by
  unfold mrg
  split
  · rw [h1]
  · rfl
section VCALL
variable {Γ : GX} {k n : Nat} {hp hpc : AH} {pc n' : Nat} {L : List (Option Value)} {st : List Value} {cc : ByteArray} {own : String} {ret : Option FieldType} {R : Room}
  {y : MethodName} {b : ByteArray} {nL2 : Nat} {ret2 : Option FieldType} {rm : Room} {As : List Value} {post : Option Value → AH → Prop} {i : Nat}
/-- from the machine's call on -/
theorem v_goes {st0 : List Value} {H : Heap} {locs : List Loc} {ls : Array Slot} {a : Array Value} {D : DD} {mc ms : Nat} (hD : gD Γ = D) (hA0 : ∀ q, (gS Γ).heap.size ≤ q → gA Γ q)
    (hr : va_Run (gP Γ) (gL Γ) (gE Γ) (gR Γ) (gS Γ) (gM Γ) (gArgs Γ) (gB Γ) (gMt Γ) (gC Γ) H locs k n mc ms (F0 (gM Γ) pc ls st0) st (QG D post (AA hpc H.size) a) (AA hpc H.size))
    (hsub : ∀ q e, hpc q = some e → hp q = some e) (a1 : HW (gD Γ) hp H) (a2 : ∀ q, hp q ≠ none → gA Γ q) (a3 : va_S (gA Γ) (gS Γ).heap H locs) (a4 : LH ls (gN Γ) L)
    (kk : ∀ r hp', post r hp' → V Γ (k + mc) (n + ms) (mrg hp hpc hp') (pc + 3) L (r.toList ++ st)) : W (gP Γ) (gL Γ) (gE Γ) (gR Γ) (gS Γ) (gM Γ) (gArgs Γ) (gB Γ) (gMt Γ) (gC Γ) H locs k n (gQ Γ) (F0 (gM Γ) pc ls st0) := by
  have hsubA : ∀ q, AA hpc H.size q → gA Γ q := by
    intro q hq
    rcases hq with hq | hq
    · cases he : hpc q with
      | none => exact absurd he hq
      | some e => exact a2 q (by rw [hsub q e he]; exact fun z => by cases z)
    · exact hA0 q (Nat.le_trans a3.1 hq)
  intro T hT X
  obtain ⟨v, st₀, t, T', Lc, h0, X', hL, e1, e2, ⟨⟨r, hp', hv, hpost, hW', hdom⟩, hz, hkeep⟩, stp⟩ := hr T hT X
  cases hv
  rw [h0] at hz hkeep
  subst hD
  have hW1 : HW (gD Γ) (mrg hp hpc hp') T'.heap := by
    intro q e hq
    rw [e1]
    unfold mrg at hq
    split at hq
    · rename_i hn
      cases hpq : hp q with
      | none => rw [hpq] at hq; exact hW' q e hq
      | some e' =>
        rw [hpq] at hq
        cases hq
        have hl := a1.lt hpq
        exact (a1 q e hpq).kept (hkeep q hl (fun z => by
          rcases z with z | z
          · exact z hn
          · omega))
    · exact hW' q e hq
  have hdom1 : ∀ q, mrg hp hpc hp' q ≠ none → gA Γ q := by
    intro q hq
    unfold mrg at hq
    split at hq
    · cases hpq : hp q with
      | none => rw [hpq] at hq; exact hsubA q (hdom q hq)
      | some e' => exact a2 q (by rw [hpq]; exact fun z => by cases z)
    · exact hsubA q (hdom q hq)
  obtain ⟨t2, c1, c2⟩ := kk v hp' hpost T'.heap (locs ++ Lc) ls hW1 hdom1 ⟨Nat.le_trans a3.1 (by rw [e1]; exact hz), fun q h1 h2 => by rw [e1, hkeep q (Nat.lt_of_lt_of_le h1 a3.1) (fun z => h2 (hsubA q z))]; exact a3.2.1 q h1 h2, fun q hq => by
      rcases List.mem_append.mp hq with h | h
      · exact a3.2.2 q h
      · exact hsubA _ (hL q h)⟩ a4 T' rfl X'
  exact ⟨t2, stp t2 c1, c2⟩
/-- the callee's start -/
theorem v_pre {H : Heap} {locs : List Loc} (h : Ok0 cc own ret R Γ) (hsub : ∀ q e, hpc q = some e → hp q = some e) (a1 : HW (gD Γ) hp H) (a2 : ∀ q, hp q ≠ none → gA Γ q) (a3 : va_S (gA Γ) (gS Γ).heap H locs) : PreS (gS Γ) H (va_Pc As (fun U => U.heap.size = H.size ∧ HW (gD Γ) hpc U.heap ∧ EE (gD Γ) (AA hpc H.size) U)) As := by
  refine ⟨fun a U g mk q => ⟨q.1, q.2.1, q.2.2.1, EE.blind q.2.2.2⟩, fun U hU hWm => ⟨rfl, by rw [hU], by rw [hU]; exact fun q e hq => a1 q e (hsub q e hq), EE.step hWm (by rw [hU]; exact a3) (fun q hq => ?_) h.2.2.2.2.2.2.1⟩⟩
  rcases hq with hq | hq
  · cases he : hpc q with
    | none => exact absurd he hq
    | some e => exact a2 q (by rw [hsub q e he]; exact fun z => by cases z)
  · exact h.2.2.2.2.2.2.2.1 q (Nat.le_trans a3.1 hq)
theorem v_recv {H : Heap} {a ci N : Nat} {C : String} {T : u_T} {fs : List Value} (h : Ok0 cc own ret R Γ) (a1 : HW (gD Γ) hp H) (hc : CL[ci]? = some (C, T, N)) (he : hp a = some (.inr (ci, fs))) : ∃ cell : Cell, H[a]? = some cell ∧ cell.vm.isStatics = false ∧ (gS Γ).vm.findClass C = some cell.cls :=
  va_recv (q0 := 0) h.2.2.2.2.2.2.1.1 (a1.P he) hc rfl
theorem v_callS (h : Ok0 cc own ret R Γ) (hM : Ct y b nL2 ret2 rm As hpc post) (hsub : ∀ q e, hpc q = some e → hp q = some e) (hw : GoodIn lw_all (va_wsS own i y (ws_ y b nL2 ret2)))
    (hd : y.cls ≠ "java/lang/invoke/MethodHandle" ∧ y.cls ≠ "java/lang/invoke/VarHandle" ∧ (parseMethodDescriptor y.desc).map (fun d => d.parameters.length) = some As.length) (hR : rm.frames + 1 ≤ R.frames ∧ 8 + (nL2 + 11) + rm.locals ≤ R.locals) (hf : k + rm.cells ≤ R.cells ∧ n + rm.slots ≤ R.slots) (hst : (st.map fun v => v.category).sum ≤ 8) (d : decode cc pc = .ok (.invokestatic i, 3)) (hn : pc + 3 = n')
    (kk : ∀ r hp', post r hp' → V Γ (k + rm.cells) (n + rm.slots) (mrg hp hpc hp') n' L (r.toList ++ st)) {st0 : List Value} (hs0 : st0 = As.reverse ++ st) : V Γ k n hp pc L st0 := fun H locs ls a1 a2 a3 a4 => by
  subst hn
  have hRR := h.2.2.2.2.2.2.2.2.2
  exact v_goes rfl h.2.2.2.2.2.2.2.1 (va_runS (nL := gN Γ) (Ts := lw_all) ⟨h.1, h.2.1, h.2.2.1, h.2.2.2.2.1, h.2.2.2.2.2.1⟩ (hM (gL Γ) (gD Γ) H.size) (va_cwS As.length h.2.2.2.2.2.1 hw rfl rfl rfl hd (by rw [hRR]; exact hR)) (v_pre h hsub a1 a2 a3) rfl rfl a4.2.1 hs0 (lv_room hst) d (by rw [hRR]; exact hf)) hsub a1 a2 a3 a4 kk
theorem v_callV (h : Ok0 cc own ret R Γ) {a ci N : Nat} {T : u_T} {fs : List Value} (hM : Ct y b nL2 ret2 rm (.ref a :: As) hpc post) (hsub : ∀ q e, hpc q = some e → hp q = some e) (hc : CL[ci]? = some (y.cls, T, N)) (he : hp a = some (.inr (ci, fs))) (hw : GoodIn lw_all (wsV own i y.cls y (ws_ y b nL2 ret2)))
    (hd : y.cls ≠ "java/lang/invoke/MethodHandle" ∧ y.cls ≠ "java/lang/invoke/VarHandle" ∧ (parseMethodDescriptor y.desc).map (fun d => d.parameters.length) = some As.length) (hR : rm.frames + 1 ≤ R.frames ∧ 8 + (nL2 + 11) + rm.locals ≤ R.locals) (hf : k + rm.cells ≤ R.cells ∧ n + rm.slots ≤ R.slots) (hst : (st.map fun v => v.category).sum ≤ 8) (d : decode cc pc = .ok (.invokevirtual i, 3)) (hn : pc + 3 = n')
    (kk : ∀ r hp', post r hp' → V Γ (k + rm.cells) (n + rm.slots) (mrg hp hpc hp') n' L (r.toList ++ st)) {st0 : List Value} (hs0 : st0 = As.reverse ++ .ref a :: st) : V Γ k n hp pc L st0 := fun H locs ls a1 a2 a3 a4 => by
  subst hn
  have hRR := h.2.2.2.2.2.2.2.2.2
  have hpre := v_pre (As := .ref a :: As) h hsub a1 a2 a3
  exact v_goes rfl h.2.2.2.2.2.2.2.1 (va_runV (nL := gN Γ) (Ts := lw_all) ⟨h.1, h.2.1, h.2.2.1, h.2.2.2.2.1, h.2.2.2.2.2.1⟩ (hM (gL Γ) (gD Γ) H.size) (cwV As.length h.2.2.2.2.2.1 hw rfl rfl rfl ⟨rfl, hd⟩ (by rw [hRR]; exact hR)) ⟨hpre.1, v_recv h a1 hc he, hpre.2⟩ rfl rfl a4.2.1 hs0 (lv_room hst) d (by rw [hRR]; exact hf)) hsub a1 a2 a3 a4 kk
theorem v_callI (h : Ok0 cc own ret R Γ) {a : Nat} (hM : Ct y b nL2 none rm (.ref a :: As) hpc post) (hsub : ∀ q e, hpc q = some e → hp q = some e) (hcode : Cond.code y b nL2 none ∈ lw_all) (hini : Cond.initialized y.cls ∈ lw_all) (hl : Cond.methodLink own i y ∈ lw_all) (hinst : Cond.instanceMethod y ∈ lw_all) (hnm : y.name = "<init>")
    (hd : y.cls ≠ "java/lang/invoke/MethodHandle" ∧ y.cls ≠ "java/lang/invoke/VarHandle" ∧ (parseMethodDescriptor y.desc).map (fun d => d.parameters.length) = some As.length) (hR : rm.frames + 1 ≤ R.frames ∧ 8 + (nL2 + 11) + rm.locals ≤ R.locals) (hf : k + rm.cells ≤ R.cells ∧ n + rm.slots ≤ R.slots) (hst : (st.map fun v => v.category).sum ≤ 8) (d : decode cc pc = .ok (.invokespecial i, 3)) (hn : pc + 3 = n')
    (kk : ∀ r hp', post r hp' → V Γ (k + rm.cells) (n + rm.slots) (mrg hp hpc hp') n' L (r.toList ++ st)) {st0 : List Value} (hs0 : st0 = As.reverse ++ .ref a :: st) : V Γ k n hp pc L st0 := fun H locs ls a1 a2 a3 a4 => by
  subst hn
  have hRR := h.2.2.2.2.2.2.2.2.2
  have hts := h.2.2.2.2.2.1
  exact v_goes rfl h.2.2.2.2.2.2.2.1 (va_runI (nL := gN Γ) (Ts := lw_all) ⟨h.1, h.2.1, h.2.2.1, h.2.2.2.2.1, hts⟩ (hM (gL Γ) (gD Γ) H.size) (cwI As.length hts (lw_meth hcode) rfl rfl rfl (hts _ hini) (hts _ hl) (hts _ hinst) hnm hd (by rw [hRR]; exact hR)) (v_pre h hsub a1 a2 a3) rfl rfl a4.2.1 hs0 (lv_room hst) d (by rw [hRR]; exact hf)) hsub a1 a2 a3 a4 kk
theorem v_callSN (h : Ok0 cc own ret R Γ) {host : String} (hM : Ct y b nL2 ret2 rm As hpc post) (hsub : ∀ q e, hpc q = some e → hp q = some e) (hcode : Cond.code y b nL2 ret2 ∈ lw_all) (hini : Cond.initialized y.cls ∈ lw_all) (hl : Cond.methodLinkNest own i y host ∈ lw_tbl) (hstat : Cond.static y ∈ lw_all)
    (hd : y.cls ≠ "java/lang/invoke/MethodHandle" ∧ y.cls ≠ "java/lang/invoke/VarHandle" ∧ (parseMethodDescriptor y.desc).map (fun d => d.parameters.length) = some As.length) (hR : rm.frames + 1 ≤ R.frames ∧ 8 + (nL2 + 11) + rm.locals ≤ R.locals) (hf : k + rm.cells ≤ R.cells ∧ n + rm.slots ≤ R.slots) (hst : (st.map fun v => v.category).sum ≤ 8) (d : decode cc pc = .ok (.invokestatic i, 3)) (hn : pc + 3 = n')
    (kk : ∀ r hp', post r hp' → V Γ (k + rm.cells) (n + rm.slots) (mrg hp hpc hp') n' L (r.toList ++ st)) {st0 : List Value} (hs0 : st0 = As.reverse ++ st) : V Γ k n hp pc L st0 := fun H locs ls a1 a2 a3 a4 => by
  subst hn
  have hRR := h.2.2.2.2.2.2.2.2.2
  have hts := h.2.2.2.2.2.1
  exact v_goes rfl h.2.2.2.2.2.2.2.1 (va_runSN (nL := gN Γ) (Ts := lw_all) ⟨h.1, h.2.1, h.2.2.1, h.2.2.2.2.1, hts⟩ (hM (gL Γ) (gD Γ) H.size) ⟨va_cnB As.length hts (lw_meth hcode) rfl rfl rfl (h.2.2.2.2.2.2.1.2.1 _ hl rfl) (hts _ hini) hd (by rw [hRR]; exact hR), hts _ hstat, trivial⟩ (v_pre h hsub a1 a2 a3) rfl rfl a4.2.1 hs0 (lv_room hst) d (by rw [hRR]; exact hf)) hsub a1 a2 a3 a4 kk
theorem v_callVN (h : Ok0 cc own ret R Γ) {host : String} {a ci N : Nat} {T : u_T} {fs : List Value} (hM : Ct y b nL2 ret2 rm (.ref a :: As) hpc post) (hsub : ∀ q e, hpc q = some e → hp q = some e) (hc : CL[ci]? = some (y.cls, T, N)) (he : hp a = some (.inr (ci, fs))) (hcode : Cond.code y b nL2 ret2 ∈ lw_all) (hini : Cond.initialized y.cls ∈ lw_all) (hl : Cond.methodLinkNest own i y host ∈ lw_tbl) (hinst : Cond.instanceMethod y ∈ lw_all) (hsel : Cond.selects y.cls y y ∈ lw_all)
    (hd : y.cls ≠ "java/lang/invoke/MethodHandle" ∧ y.cls ≠ "java/lang/invoke/VarHandle" ∧ (parseMethodDescriptor y.desc).map (fun d => d.parameters.length) = some As.length) (hR : rm.frames + 1 ≤ R.frames ∧ 8 + (nL2 + 11) + rm.locals ≤ R.locals) (hf : k + rm.cells ≤ R.cells ∧ n + rm.slots ≤ R.slots) (hst : (st.map fun v => v.category).sum ≤ 8) (d : decode cc pc = .ok (.invokevirtual i, 3)) (hn : pc + 3 = n')
    (kk : ∀ r hp', post r hp' → V Γ (k + rm.cells) (n + rm.slots) (mrg hp hpc hp') n' L (r.toList ++ st)) {st0 : List Value} (hs0 : st0 = As.reverse ++ .ref a :: st) : V Γ k n hp pc L st0 := fun H locs ls a1 a2 a3 a4 => by
  subst hn
  have hRR := h.2.2.2.2.2.2.2.2.2
  have hts := h.2.2.2.2.2.1
  have hpre := v_pre (As := .ref a :: As) h hsub a1 a2 a3
  exact v_goes rfl h.2.2.2.2.2.2.2.1 (va_runVN (nL := gN Γ) (Ts := lw_all) ⟨h.1, h.2.1, h.2.2.1, h.2.2.2.2.1, hts⟩ (hM (gL Γ) (gD Γ) H.size) ⟨va_cnB As.length hts (lw_meth hcode) rfl rfl rfl (h.2.2.2.2.2.2.1.2.1 _ hl rfl) (hts _ hini) hd (by rw [hRR]; exact hR), hts _ hinst, hts _ hsel⟩ ⟨hpre.1, v_recv h a1 hc he, hpre.2⟩ rfl rfl a4.2.1 hs0 (lv_room hst) d (by rw [hRR]; exact hf)) hsub a1 a2 a3 a4 kk
theorem v_callIN (h : Ok0 cc own ret R Γ) {host : String} {a : Nat} (hM : Ct y b nL2 none rm (.ref a :: As) hpc post) (hsub : ∀ q e, hpc q = some e → hp q = some e) (hcode : Cond.code y b nL2 none ∈ lw_all) (hini : Cond.initialized y.cls ∈ lw_all) (hl : Cond.methodLinkNest own i y host ∈ lw_tbl) (hinst : Cond.instanceMethod y ∈ lw_all) (hnm : y.name = "<init>")
    (hd : y.cls ≠ "java/lang/invoke/MethodHandle" ∧ y.cls ≠ "java/lang/invoke/VarHandle" ∧ (parseMethodDescriptor y.desc).map (fun d => d.parameters.length) = some As.length) (hR : rm.frames + 1 ≤ R.frames ∧ 8 + (nL2 + 11) + rm.locals ≤ R.locals) (hf : k + rm.cells ≤ R.cells ∧ n + rm.slots ≤ R.slots) (hst : (st.map fun v => v.category).sum ≤ 8) (d : decode cc pc = .ok (.invokespecial i, 3)) (hn : pc + 3 = n')
    (kk : ∀ r hp', post r hp' → V Γ (k + rm.cells) (n + rm.slots) (mrg hp hpc hp') n' L (r.toList ++ st)) {st0 : List Value} (hs0 : st0 = As.reverse ++ .ref a :: st) : V Γ k n hp pc L st0 := fun H locs ls a1 a2 a3 a4 => by
  subst hn
  have hRR := h.2.2.2.2.2.2.2.2.2
  have hts := h.2.2.2.2.2.1
  exact v_goes rfl h.2.2.2.2.2.2.2.1 (va_runIN (nL := gN Γ) (Ts := lw_all) ⟨h.1, h.2.1, h.2.2.1, h.2.2.2.2.1, hts⟩ (hM (gL Γ) (gD Γ) H.size) ⟨va_cnB As.length hts (lw_meth hcode) rfl rfl rfl (h.2.2.2.2.2.2.1.2.1 _ hl rfl) (hts _ hini) hd (by rw [hRR]; exact hR), hnm, hts _ hinst⟩ (v_pre h hsub a1 a2 a3) rfl rfl a4.2.1 hs0 (lv_room hst) d (by rw [hRR]; exact hf)) hsub a1 a2 a3 a4 kk
end VCALL
