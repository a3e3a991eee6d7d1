/-! THE SPEC: what both sides are tied to -/
set_option maxRecDepth 100000
theorem Ct.mono {y : MethodName} {b : ByteArray} {nL : Nat} {ret : Option FieldType} {rm : Room} {As : List Value} {hp : AH} {post post' : Option Value → AH → Prop} (h : Ct y b nL ret rm As hp post) (hpp : ∀ r hp, post r hp → post' r hp) : Ct y b nL ret rm As hp post' := by
  intro l D sz
  refine MetFree.mono (h l D sz) (fun _ _ h => h) (fun _ _ _ _ _ h => h) ?_
  rintro a st o t - ⟨⟨⟨r, hp1, e1, e2, e3⟩, e4⟩, e5⟩
  exact ⟨⟨⟨r, hp1, e1, hpp r hp1 e2, e3⟩, e4⟩, e5⟩
theorem MCv.mono {y : MethodName} {b : ByteArray} {nL : Nat} {ret : Option FieldType} {l : Nat} {As : List Value} {σ : MS} {post post' : MS → Prop} (h : MCv y b nL ret l As σ post) (hpp : ∀ σ', post σ' → post' σ') : MCv y b nL ret l As σ post' := by
  intro ad hok hm
  refine (h ad hok hm).mono ?_
  rintro r hp ⟨rfl, σ', rfl, m', p⟩
  exact ⟨rfl, σ', rfl, m', hpp σ' p⟩
theorem MCi.mono {y : MethodName} {b : ByteArray} {nL : Nat} {ret : Option FieldType} {l : Nat} {As : List Value} {σ : MS} {post post' : Int → MS → Prop} (h : MCi y b nL ret l As σ post) (hpp : ∀ z σ', post z σ' → post' z σ') : MCi y b nL ret l As σ post' := by
  intro ad hok hm
  refine (h ad hok hm).mono ?_
  rintro r hp ⟨z, rfl, σ', rfl, m', p⟩
  exact ⟨z, rfl, σ', rfl, m', hpp z σ' p⟩
abbrev Tre : Type := Tr × Int × Int × Int × PN
abbrev Shf : Type := Tre × (Nat → Int) × (Nat → Int) × List Int × List (Int × Int × Int)
abbrev SS : Type := (Int → Int) × Int × Int × Int × Int × Int × Shf × Int × Shf
noncomputable def teEnter (a b fee : Int) (te : Tre) (k : Nat) : Tre := ((entR a b te.1 k).1, mx ((tz te.1 : Int) + 1) te.2.1, te.2.2.1 + bn (entR a b te.1 k).2, te.2.2.2.1 + ((entR a b te.1 k).2 : Int), entM fee a b te.1 k te.2.2.2.2)
noncomputable def teLeave (a b fee : Int) (te : Tre) (k : Nat) : Tre := ((levR a b te.2.1 te.1 k).1, (levR a b te.2.1 te.1 k).2.2, te.2.2.1 + bn (levR a b te.2.1 te.1 k).2.1, te.2.2.2.1 + ((levR a b te.2.1 te.1 k).2.1 : Int), levM fee a b te.2.1 te.1 k te.2.2.2.2)
def teFlat (te : Tre) : Tre := (flat te.1, te.2.1, te.2.2.1 + 1, te.2.2.2.1 + (tz te.1 : Int), payN te.2.2.2.2 (0 - (tz te.1 : Int)))
def te0 : Tre := (.leaf (), 0, 0, 0, (0, 0))
def RelT (σ : MS) (t : Int) (te : Tre) : Prop := LR σ t te.1 ∧ σ.2 7 t = (tz te.1 : Int) ∧ σ.2 8 t = te.2.1 ∧ σ.2 10 t = te.2.2.1 ∧ σ.2 11 t = te.2.2.2.1 ∧ (t = 0 → (σ.1 19, σ.1 20) = te.2.2.2.2)
def TeB (te : Tre) (B : Int) : Prop := (0 ≤ te.2.1 ∧ te.2.1 ≤ 40) ∧ (0 ≤ te.2.2.1 ∧ te.2.2.1 ≤ B) ∧ (0 ≤ te.2.2.2.1 ∧ te.2.2.2.1 ≤ B) ∧ (-B ≤ te.2.2.2.2.1 ∧ te.2.2.2.2.1 ≤ B) ∧ (-B ≤ te.2.2.2.2.2 ∧ te.2.2.2.2.2 ≤ B)
theorem numOk_of {σ : MS} {t a b : Int} {te : Tre} (ht : t = 0 ∨ t = 1) (h : RelT σ t te) (hB : TeB te 1000000) (h19 : -100000000 ≤ σ.1 19 ∧ σ.1 19 ≤ 100000000) (h18 : 0 ≤ σ.1 18 ∧ σ.1 18 ≤ 9) (ha : (if t = 0 then σ.1 14 else σ.1 16) = a) (hb : (if t = 0 then σ.1 15 else σ.1 17) = b) (hab : isRat a b) : NumOk σ t a b te.1 := by
  obtain ⟨h1, h2, h3, h4, h5, h6⟩ := h
  obtain ⟨b1, b2, b3, b4, b5⟩ := hB
  exact ⟨h2, by rw [h3]; exact b1, by rw [h4]; exact b2, by rw [h5]; exact b3, h19, h18, ha, hb, hab⟩
theorem m_enterT (σ : MS) (t : Int) (ht : t = 0 ∨ t = 1) (te : Tre) (hT : RelT σ t te) (hB : TeB te 1000000) (k : Nat) (hk : k ∉ tl te.1) (hk1 : k < 100) (hz : tz te.1 < 40) (a b : Int) (h19 : -100000000 ≤ σ.1 19 ∧ σ.1 19 ≤ 100000000) (h18 : 0 ≤ σ.1 18 ∧ σ.1 18 ≤ 9) (ha : (if t = 0 then σ.1 14 else σ.1 16) = a) (hb : (if t = 0 then σ.1 15 else σ.1 17) = b) (hab : isRat a b) : MCv yX2_enter cX2_enter 5 none 4 [.int (iI t), .int (iI (k : Int))] σ (fun σ' => RelT σ' t (teEnter a b (σ.1 18) te k) ∧ σ'.1 9 = ((entR a b te.1 k).2 : Int) ∧ Fr t σ σ') := by
  refine (m_enter σ t ht te.1 hT.1 k hk hk1 hz a b (numOk_of ht hT hB h19 h18 ha hb hab)).mono ?_
  intro σ' p
  obtain ⟨p1, p9, p7, p8, p10, p11, pm, pF⟩ := p
  obtain ⟨h1, h2, h3, h4, h5, h6⟩ := hT
  have ez : tz (entR a b te.1 k).1 = tz te.1 + 1 := by
    have hk1 := ins_mem (T := te.1) (k := k) (x := k)
    have hs := ins_srt h1.2.2.2.1 hk
    by_cases c : (dep (ins te.1 k) k : Int) ≤ (lim a b ((tz te.1 : Int) + 1) : Int)
    · rw [entR_a c]; exact ins_tz _ _
    · cases hsc : scp a b (ins te.1 k) (way (ins te.1 k) k).reverse with
      | none => rw [entR_b c hsc]; exact ins_tz _ _
      | some x =>
        rw [entR_c c hsc, ← ins_tz te.1 k]
        exact tz_tl (gr_tl hs (way_mem (List.mem_reverse.mp (scp_mem hsc))) (flat_tl _))
  exact ⟨⟨p1, by rw [p7]; show _ = (tz (entR a b te.1 k).1 : Int); rw [ez]; norm_cast, by rw [p8, h3]; rfl, by rw [p10, h4]; rfl, by rw [p11, h5]; rfl, fun t0 => by rw [pm t0, h6 t0]; rfl⟩, p9, pF⟩
theorem entR_tl {a b : Int} {T : Tr} {k : Nat} (hs : Srt T) (hk : k ∉ tl T) : tl (entR a b T k).1 = tl (ins T k) := by
  have hs := ins_srt hs hk
  by_cases c : (dep (ins T k) k : Int) ≤ (lim a b ((tz T : Int) + 1) : Int)
  · rw [entR_a c]
  · cases hsc : scp a b (ins T k) (way (ins T k) k).reverse with
    | none => rw [entR_b c hsc]
    | some x =>
      rw [entR_c c hsc]
      exact gr_tl hs (way_mem (List.mem_reverse.mp (scp_mem hsc))) (flat_tl _)
theorem levR_tl {a b most : Int} {T : Tr} {k : Nat} : tl (levR a b most T k).1 = tl (del T k) := by
  by_cases c : levC a b most T
  · rw [levR_a c]; exact flat_tl _
  · rw [levR_b c]
theorem m_leaveT (σ : MS) (t : Int) (ht : t = 0 ∨ t = 1) (te : Tre) (hT : RelT σ t te) (hB : TeB te 1000000) (k : Nat) (hk : k ∈ tl te.1) (a b : Int) (h19 : -100000000 ≤ σ.1 19 ∧ σ.1 19 ≤ 100000000) (h18 : 0 ≤ σ.1 18 ∧ σ.1 18 ≤ 9) (ha : (if t = 0 then σ.1 14 else σ.1 16) = a) (hb : (if t = 0 then σ.1 15 else σ.1 17) = b) (hab : isRat a b) : MCv yX2_leave cX2_leave 3 none 5 [.int (iI t), .int (iI (k : Int))] σ (fun σ' => RelT σ' t (teLeave a b (σ.1 18) te k) ∧ σ'.1 9 = ((levR a b te.2.1 te.1 k).2.1 : Int) ∧ Fr t σ σ') := by
  refine (m_leave σ t ht te.1 hT.1 k hk a b (numOk_of ht hT hB h19 h18 ha hb hab)).mono ?_
  intro σ' p
  obtain ⟨p1, p9, p7, p8, p10, p11, pm, pF⟩ := p
  obtain ⟨h1, h2, h3, h4, h5, h6⟩ := hT
  rw [h3] at p1 p9 p8 p10 p11 pm
  have ez : tz (levR a b te.2.1 te.1 k).1 + 1 = tz te.1 := by rw [tz_tl levR_tl]; exact del_tz h1.2.2.2.1 hk
  exact ⟨⟨p1, by rw [p7]; show _ = (tz (levR a b te.2.1 te.1 k).1 : Int); omega, p8, by rw [p10, h4]; rfl, by rw [p11, h5]; rfl, fun t0 => by rw [pm t0, h6 t0]; rfl⟩, p9, pF⟩
/-! a shelf: tree, kinds, values, log, sights -/
def LogR (σ : MS) (lg : List Int) : Prop := σ.1 22 = (lg.length : Int) ∧ lg.length ≤ 60 ∧ ∀ i : Nat, i < lg.length → σ.2 21 (i : Int) = lg.getD i 0
def SeenR (σ : MS) (sn : List (Int × Int × Int)) : Prop := σ.1 28 = (sn.length : Int) ∧ sn.length ≤ 6 ∧ ∀ i : Nat, i < sn.length → σ.2 29 (3 * (i : Int)) = (sn.getD i (0, 0, 0)).1 ∧ σ.2 29 (3 * (i : Int) + 1) = (sn.getD i (0, 0, 0)).2.1 ∧ σ.2 29 (3 * (i : Int) + 2) = (sn.getD i (0, 0, 0)).2.2
def KvR (σ : MS) (h : Shf) : Prop := ∀ k : Nat, k ∈ tl h.1.1 → σ.2 12 (k : Int) = h.2.1 k ∧ σ.2 13 (k : Int) = h.2.2.1 k
def ShfR (σ : MS) (h : Shf) : Prop := RelT σ 0 h.1 ∧ KvR σ h ∧ LogR σ h.2.2.2.1 ∧ SeenR σ h.2.2.2.2
def ksh (σ : MS) : MS := (fun f => if f = 19 then σ.1 37 else if f = 20 then σ.1 38 else if f = 22 then σ.1 39 else if f = 28 then σ.1 40 else σ.1 f,
  fun f i => if f = 2 then σ.2 41 i else if f = 3 then σ.2 42 i else if f = 4 then σ.2 43 i else if f = 5 then σ.2 44 i else if f = 12 then σ.2 45 i else if f = 13 then σ.2 46 i else if f = 21 then σ.2 47 i else if f = 29 then σ.2 48 i else if f = 6 then σ.1 32 else if f = 7 then σ.1 33 else if f = 8 then σ.1 34 else if f = 10 then σ.1 35 else if f = 11 then σ.1 36 else σ.2 f i)
def sPg (s : SS) : Int → Int := s.1
def sPn (s : SS) : Int := s.2.1
def sSh (s : SS) : Int := s.2.2.1
def sA (s : SS) : Int := s.2.2.2.1
def sB (s : SS) : Int := s.2.2.2.2.1
def sF (s : SS) : Int := s.2.2.2.2.2.1
def sC (s : SS) : Shf := s.2.2.2.2.2.2.1
def sKn (s : SS) : Int := s.2.2.2.2.2.2.2.1
def sK (s : SS) : Shf := s.2.2.2.2.2.2.2.2
def MRel (σ : MS) (s : SS) : Prop := (∀ i, σ.2 0 i = sPg s i) ∧ σ.1 1 = sPn s ∧ σ.1 23 = sSh s ∧ σ.1 14 = sA s ∧ σ.1 15 = sB s ∧ σ.1 18 = sF s ∧ ShfR σ (sC s) ∧ σ.1 31 = sKn s ∧ (sKn s = sSh s → ShfR (ksh σ) (sK s))
theorem RelT.cg {σ σ' : MS} {t : Int} {te : Tre} (h : RelT σ t te) (e : ∀ f i, (2 ≤ f ∧ f ≤ 6) ∨ f = 7 ∨ f = 8 ∨ f = 10 ∨ f = 11 → σ'.2 f i = σ.2 f i) (e1 : t = 0 → σ'.1 19 = σ.1 19 ∧ σ'.1 20 = σ.1 20) : RelT σ' t te := by
  obtain ⟨h1, h2, h3, h4, h5, h6⟩ := h
  exact ⟨h1.cg (fun f i a b => e f i (by omega)), by rw [e 7 _ (by omega)]; exact h2, by rw [e 8 _ (by omega)]; exact h3, by rw [e 10 _ (by omega)]; exact h4, by rw [e 11 _ (by omega)]; exact h5, fun t0 => by rw [(e1 t0).1, (e1 t0).2]; exact h6 t0⟩
theorem LogR.cg {σ σ' : MS} {lg : List Int} (h : LogR σ lg) (e : ∀ i, σ'.2 21 i = σ.2 21 i) (e1 : σ'.1 22 = σ.1 22) : LogR σ' lg := ⟨by rw [e1]; exact h.1, h.2.1, fun i hi => by rw [e]; exact h.2.2 i hi⟩
theorem SeenR.cg {σ σ' : MS} {sn : List (Int × Int × Int)} (h : SeenR σ sn) (e : ∀ i, σ'.2 29 i = σ.2 29 i) (e1 : σ'.1 28 = σ.1 28) : SeenR σ' sn := ⟨by rw [e1]; exact h.1, h.2.1, fun i hi => by rw [e, e, e]; exact h.2.2 i hi⟩
theorem KvR.cg {σ σ' : MS} {h : Shf} (hh : KvR σ h) (e : ∀ f i, f = 12 ∨ f = 13 → σ'.2 f i = σ.2 f i) : KvR σ' h := fun k hk => by rw [e 12 _ (by omega), e 13 _ (by omega)]; exact hh k hk
theorem ShfR.cg {σ σ' : MS} {h : Shf} (hh : ShfR σ h) (e : ∀ f i, (2 ≤ f ∧ f ≤ 6) ∨ f = 7 ∨ f = 8 ∨ f = 10 ∨ f = 11 ∨ f = 12 ∨ f = 13 ∨ f = 21 ∨ f = 29 → σ'.2 f i = σ.2 f i) (e1 : ∀ f, f = 19 ∨ f = 20 ∨ f = 22 ∨ f = 28 → σ'.1 f = σ.1 f) : ShfR σ' h :=
  ⟨hh.1.cg (fun f i a => e f i (by omega)) (fun _ => ⟨e1 19 (by omega), e1 20 (by omega)⟩), hh.2.1.cg (fun f i a => e f i (by omega)), hh.2.2.1.cg (fun i => e 21 i (by omega)) (e1 22 (by omega)), hh.2.2.2.cg (fun i => e 29 i (by omega)) (e1 28 (by omega))⟩
/-- the first tree stays where the second one moves -/
theorem Fr.RelT0 {σ σ' : MS} {te : Tre} (h : Fr 1 σ σ') (hT : RelT σ 0 te) : RelT σ' 0 te := by
  obtain ⟨h1, h2, h3, h4, h5, h6⟩ := hT
  refine ⟨Fr.LR h (by decide) (by decide) (by decide) h1, ?_, ?_, ?_, ?_, fun t0 => ?_⟩
  · rw [h.2 7 0 (by unfold wr; omega)]; exact h2
  · rw [h.2 8 0 (by unfold wr; omega)]; exact h3
  · rw [h.2 10 0 (by unfold wr; omega)]; exact h4
  · rw [h.2 11 0 (by unfold wr; omega)]; exact h5
  · rw [h.1 19 (by decide) (by decide), h.1 20 (by decide) (by decide)]; exact h6 t0
theorem Fr.ShfR1 {σ σ' : MS} {s : Shf} (h : Fr 1 σ σ') (hs : ShfR σ s) : ShfR σ' s :=
  ⟨h.RelT0 hs.1, hs.2.1.cg (fun f i a => h.2 f i (by unfold wr; omega)), hs.2.2.1.cg (fun i => h.2 21 i (by unfold wr; omega)) (h.1 22 (by decide) (by decide)), hs.2.2.2.cg (fun i => h.2 29 i (by unfold wr; omega)) (h.1 28 (by decide) (by decide))⟩
theorem ksh_cg {σ σ' : MS} {h : Shf} (hh : ShfR (ksh σ) h) (e : ∀ f i, 41 ≤ f ∧ f ≤ 48 → σ'.2 f i = σ.2 f i) (e1 : ∀ f, 32 ≤ f ∧ f ≤ 40 → σ'.1 f = σ.1 f) : ShfR (ksh σ') h := by
  refine hh.cg (fun f i hf => ?_) (fun f hf => ?_)
  · unfold ksh
    dsimp only
    rw [e 41 i (by omega), e 42 i (by omega), e 43 i (by omega), e 44 i (by omega), e 45 i (by omega), e 46 i (by omega), e 47 i (by omega), e 48 i (by omega), e1 32 (by omega), e1 33 (by omega), e1 34 (by omega), e1 35 (by omega), e1 36 (by omega)]
    by_cases c : f = 2 ∨ f = 3 ∨ f = 4 ∨ f = 5 ∨ f = 12 ∨ f = 13 ∨ f = 21 ∨ f = 29 ∨ f = 6 ∨ f = 7 ∨ f = 8 ∨ f = 10 ∨ f = 11
    · rcases c with rfl | rfl | rfl | rfl | rfl | rfl | rfl | rfl | rfl | rfl | rfl | rfl | rfl <;> rfl
    · omega
  · unfold ksh
    dsimp only
    rw [e1 37 (by omega), e1 38 (by omega), e1 39 (by omega), e1 40 (by omega)]
    rcases hf with rfl | rfl | rfl | rfl <;> rfl
theorem Fr.ksh {t : Int} {σ σ' : MS} {s : Shf} (h : Fr t σ σ') (hs : ShfR (ksh σ) s) : ShfR (ksh σ') s := ksh_cg hs (fun f i a => h.2 f i (by unfold wr; omega)) (fun f a => h.1 f (by omega) (by omega))
/-- tree 1's doings change nothing that is told -/
theorem Fr.MRel1 {σ σ' : MS} {s : SS} (h : Fr 1 σ σ') (hs : MRel σ s) : MRel σ' s := by
  obtain ⟨h0, h1, h2, h3, h4, h5, h6, h7, h8⟩ := hs
  exact ⟨fun i => by rw [h.2 0 i (by unfold wr; omega)]; exact h0 i, by rw [h.1 1 (by decide) (by decide)]; exact h1, by rw [h.1 23 (by decide) (by decide)]; exact h2, by rw [h.1 14 (by decide) (by decide)]; exact h3, by rw [h.1 15 (by decide) (by decide)]; exact h4, by rw [h.1 18 (by decide) (by decide)]; exact h5, h.ShfR1 h6, by rw [h.1 31 (by decide) (by decide)]; exact h7, fun z => h.ksh (h8 z)⟩
