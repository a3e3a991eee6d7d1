/-! THE CLASS: its own cells -/
set_option maxRecDepth 100000
section V45
variable {Γ : GX} {k n : Nat} {hp : AH} {pc n' : Nat} {L : List (Option Value)} {st : List Value} {cc : ByteArray} {own : String} {ret : Option FieldType} {R : Room}
abbrev aG (t N : Nat) (g : Int → Int) : va_E := .inl (t, N, .inl (fun j => iI (g (j : Int))))
def upg (g : Int → Int) (i x : Int) : Int → Int := fun j => if j = i then x else g j
theorem upg_eq {g : Int → Int} {i x : Int} (hi : 0 ≤ i) : upd (fun j : Nat => iI (g (j : Int))) i.toNat (iI x) = fun j : Nat => iI (upg g i x (j : Int)) := by
  funext j
  unfold upd upg
  by_cases c : (j : Int) = i
  · rw [if_pos c, if_pos (by omega)]
  · rw [if_neg c, if_neg (by omega)]
theorem v_giald (h : Ok0 cc own ret R Γ) {a N : Nat} {g : Int → Int} {i : Int} (d : decode cc pc = .ok (.iaload, 1)) (hn : pc + 1 = n') (he : hp a = some (aG 0 N g)) (hi : 0 ≤ i ∧ i < N) (hi2 : i ≤ 2147483647) (kk : V Γ k n hp n' L (.int (iI (g i)) :: st)) : V Γ k n hp pc L (.int (iI i) :: .ref a :: st) := v_iald h d hn he hi hi2 (by show V Γ k n hp n' L (.int (iI (g ((i.toNat : Nat) : Int))) :: st); rw [Int.toNat_of_nonneg hi.1]; exact kk)
theorem v_gbald (h : Ok0 cc own ret R Γ) {a N : Nat} {g : Int → Int} {i : Int} (d : decode cc pc = .ok (.baload, 1)) (hn : pc + 1 = n') (he : hp a = some (aG 1 N g)) (hi : 0 ≤ i ∧ i < N) (hi2 : i ≤ 2147483647) (kk : V Γ k n hp n' L (.int (iI (g i)) :: st)) : V Γ k n hp pc L (.int (iI i) :: .ref a :: st) := v_bald h d hn he hi hi2 (by show V Γ k n hp n' L (.int (iI (g ((i.toNat : Nat) : Int))) :: st); rw [Int.toNat_of_nonneg hi.1]; exact kk)
theorem v_gzald (h : Ok0 cc own ret R Γ) {a N : Nat} {g : Int → Int} {i : Int} (d : decode cc pc = .ok (.baload, 1)) (hn : pc + 1 = n') (he : hp a = some (aG 2 N g)) (hi : 0 ≤ i ∧ i < N) (hi2 : i ≤ 2147483647) (kk : V Γ k n hp n' L (.int (iI (g i)) :: st)) : V Γ k n hp pc L (.int (iI i) :: .ref a :: st) := v_zald h d hn he hi hi2 (by show V Γ k n hp n' L (.int (iI (g ((i.toNat : Nat) : Int))) :: st); rw [Int.toNat_of_nonneg hi.1]; exact kk)
theorem v_giast (h : Ok0 cc own ret R Γ) {a N : Nat} {g : Int → Int} {i x : Int} (d : decode cc pc = .ok (.iastore, 1)) (hn : pc + 1 = n') (he : hp a = some (aG 0 N g)) (hi : 0 ≤ i ∧ i < N) (hi2 : i ≤ 2147483647) (kk : V Γ k n (upH hp a (aG 0 N (upg g i x))) n' L st) : V Γ k n hp pc L (.int (iI x) :: .int (iI i) :: .ref a :: st) := v_iast h d hn he hi hi2 (by rw [upg_eq hi.1]; exact kk)
theorem v_gbast (h : Ok0 cc own ret R Γ) {a N : Nat} {g : Int → Int} {i x : Int} (d : decode cc pc = .ok (.bastore, 1)) (hn : pc + 1 = n') (he : hp a = some (aG 1 N g)) (hi : 0 ≤ i ∧ i < N) (hi2 : i ≤ 2147483647) (hx : narrow .byte (.int (iI x)) = .int (iI x)) (kk : V Γ k n (upH hp a (aG 1 N (upg g i x))) n' L st) : V Γ k n hp pc L (.int (iI x) :: .int (iI i) :: .ref a :: st) := v_bast h d hn he hi hi2 hx (by rw [upg_eq hi.1]; exact kk)
theorem v_gzast (h : Ok0 cc own ret R Γ) {a N : Nat} {g : Int → Int} {i x : Int} (d : decode cc pc = .ok (.bastore, 1)) (hn : pc + 1 = n') (he : hp a = some (aG 2 N g)) (hi : 0 ≤ i ∧ i < N) (hi2 : i ≤ 2147483647) (hx : narrow .boolean (.int (iI x)) = .int (iI x)) (kk : V Γ k n (upH hp a (aG 2 N (upg g i x))) n' L st) : V Γ k n hp pc L (.int (iI x) :: .int (iI i) :: .ref a :: st) := v_zast h d hn he hi hi2 hx (by rw [upg_eq hi.1]; exact kk)
end V45
def xLen (k : Nat) : Nat := match k with
  | 2 => 54 | 4 => 60 | 7 => 6 | 8 => 6 | 9 => 6 | 16 => 60 | 17 => 6 | 18 => 6 | 19 => 6 | _ => 0
def xTag (k : Nat) : Nat := match k with
  | 2 => 1 | 9 => 2 | 19 => 2 | _ => 0
abbrev xO (A : Nat → Nat) (t : Nat) (kt : Option Nat) (σ : MS) : va_E := .inr (0, [.ref t, .int (iI (σ.1 1)), .ref (A 2), .int (iI (σ.1 3)), .ref (A 4), .int (iI (σ.1 5)), .int (iI (σ.1 6)), .ref (A 7), .ref (A 8), .ref (A 9), .ref (A 10), .long (lI (σ.1 11)), va_rf kt, .int (iI (σ.1 13)), .int (iI (σ.1 14)), .int (iI (σ.1 15)), .ref (A 16), .ref (A 17), .ref (A 18), .ref (A 19)])
abbrev xA (σ : MS) (i : Nat) : va_E := aG (xTag i) (xLen i) (σ.2 i)
def XR (hp : AH) (W : Nat → Prop) (ax : Nat) (A : Nat → Nat) (t : Nat) (kt : Option Nat) (σ : MS) : Prop := hp ax = some (xO A t kt σ) ∧ ¬ W ax ∧ (∀ i, xLen i ≠ 0 → hp (A i) = some (xA σ i) ∧ ¬ W (A i)) ∧ ∀ i j, xLen i ≠ 0 → xLen j ≠ 0 → A i = A j → i = j
section XR
variable {hp hp' : AH} {W : Nat → Prop} {ax : Nat} {A : Nat → Nat} {t : Nat} {kt : Option Nat} {σ : MS}
theorem XR.frm (h : XR hp W ax A t kt σ) (f : Frm W hp hp') : XR hp' W ax A t kt σ := ⟨f.at h.1 h.2.1, h.2.1, fun i hi => ⟨f.at (h.2.2.1 i hi).1 (h.2.2.1 i hi).2, (h.2.2.1 i hi).2⟩, h.2.2.2⟩
theorem XR.wk {W' : Nat → Prop} (h : XR hp W ax A t kt σ) (f : ∀ q e, hp q = some e → W' q → W q) : XR hp W' ax A t kt σ := ⟨h.1, fun z => h.2.1 (f _ _ h.1 z), fun i hi => ⟨(h.2.2.1 i hi).1, fun z => (h.2.2.1 i hi).2 (f _ _ (h.2.2.1 i hi).1 z)⟩, h.2.2.2⟩
theorem XR.na (h : XR hp W ax A t kt σ) {i : Nat} (hi : xLen i ≠ 0) : A i ≠ ax := cell_ne (h.2.2.1 i hi).1 h.1 (fun z => by cases z)
theorem XR.set (h : XR hp W ax A t kt σ) {t' : Nat} {kt' : Option Nat} {σ' : MS} (e : σ'.2 = σ.2) : XR (upH hp ax (xO A t' kt' σ')) W ax A t' kt' σ' := by
  refine ⟨upH_s, h.2.1, fun i hi => ⟨?_, (h.2.2.1 i hi).2⟩, h.2.2.2⟩
  rw [upH_n (h.na hi), (h.2.2.1 i hi).1]
  unfold xA
  rw [e]
theorem XR.arr (h : XR hp W ax A t kt σ) {f : Nat} (hf : xLen f ≠ 0) {i x : Int} : XR (upH hp (A f) (aG (xTag f) (xLen f) (upg (σ.2 f) i x))) W ax A t kt (setA σ f i x) := by
  refine ⟨(upH_n (h.na hf).symm).trans h.1, h.2.1, fun j hj => ⟨?_, (h.2.2.1 j hj).2⟩, h.2.2.2⟩
  by_cases c : j = f
  · subst c
    rw [upH_s]
    show some (aG (xTag j) (xLen j) (upg (σ.2 j) i x)) = some (aG (xTag j) (xLen j) (fun k => if j = j ∧ k = i then x else σ.2 j k))
    congr 4
    funext k
    unfold upg
    simp
  · rw [upH_n (fun z => c (h.2.2.2 j f hj hf z)), (h.2.2.1 j hj).1]
    show some (aG (xTag j) (xLen j) (σ.2 j)) = some (aG (xTag j) (xLen j) (fun k => if j = f ∧ k = i then x else σ.2 j k))
    congr 4
    funext k
    rw [if_neg (fun z => c z.1)]
end XR
def enc (x : Int) : Int := if x < 0 then 99 - x else x
def CLog (σ : MS) (f n : Nat) (lg : List Int) : Prop := σ.1 n = (lg.length : Int) ∧ lg.length ≤ 60 ∧ ∀ i : Nat, i < lg.length → σ.2 f (i : Int) = enc (lg.getD i 0)
def CSeen (σ : MS) (fk fw fc n : Nat) (sn : List (Int × Int × Int)) : Prop := σ.1 n = (sn.length : Int) ∧ sn.length ≤ 6 ∧ ∀ i : Nat, i < sn.length → σ.2 fk (i : Int) = (sn.getD i (0, 0, 0)).1 ∧ σ.2 fw (i : Int) = (sn.getD i (0, 0, 0)).2.1 ∧ σ.2 fc (i : Int) = (sn.getD i (0, 0, 0)).2.2
def Bz (σ : MS) : Prop := ∀ i, (σ.2 9 i = 0 ∨ σ.2 9 i = 1) ∧ (σ.2 19 i = 0 ∨ σ.2 19 i = 1)
def XS (σ : MS) (s : SS) : Prop := σ.1 1 = sSh s ∧ σ.1 3 = sPn s ∧ (∀ i, 0 ≤ i → i < 54 → σ.2 2 i = sPg s i) ∧ CLog σ 4 5 (sC s).2.2.2.1 ∧ CSeen σ 7 8 9 6 (sC s).2.2.2.2 ∧ Bz σ
def Sm (de : Nat) (hp : AH) (W : Nat → Prop) (a : Nat) : Prop := ∃ xs : List Nat, Ls hp (fun q => ¬ W q) de a xs ∧ xs.length ≤ 5 ∧ ∀ i y, xs[i]? = some y → hp y = some (eO i 0 0 none none) ∧ ¬ W y
def Kp (hp : AH) (W : Nat → Prop) (kt : Option Nat) (σ : MS) (s : SS) : Prop := (kt = none ∧ sKn s = -1) ∨ ∃ kk, kt = some kk ∧ σ.1 13 = sKn s ∧ (sKn s = sSh s → ∃ adk : Nat → Nat, TT hp (fun q => ¬ W q) kk adk (sK s).2.1 (sK s).2.2.1 (sA s) (sB s) (sF s) (sK s).1 ∧ CLog σ 16 14 (sK s).2.2.2.1 ∧ CSeen σ 17 18 19 15 (sK s).2.2.2.2)
def CH (de : Nat) (hp : AH) (W : Nat → Prop) (ax : Nat) (A : Nat → Nat) (t : Nat) (kt : Option Nat) (σ : MS) (ad : Nat → Nat) (s : SS) : Prop :=
  XR hp W ax A t kt σ ∧ Fre W hp ∧ TT hp W t ad (sC s).2.1 (sC s).2.2.1 (sA s) (sB s) (sF s) (sC s).1 ∧ Sm de hp W (A 10) ∧ Kp hp W kt σ s
def CRel (de : Nat) (hp : AH) (ax : Nat) (s : SS) : Prop := ∃ (W : Nat → Prop) (A : Nat → Nat) (t : Nat) (kt : Option Nat) (σ : MS) (ad : Nat → Nat), CH de hp W ax A t kt σ ad s ∧ XS σ s
theorem Ls.frmO {hp hp' : AH} {R : Nat → Prop} {de w : Nat} {xs : List Nat} (h : Ls hp R de w xs) (e : ∀ q c, hp q = some c → R q → hp' q = some c) : Ls hp' R de w xs := by
  obtain ⟨arr, h1, h2, h3⟩ := h
  exact ⟨arr, e _ _ h1 h2, h2, h3.imp id (fun q => ⟨q.1, q.2.1, e _ _ q.2.2 q.2.1⟩)⟩
theorem TT.keep {hp hp' : AH} {W : Nat → Prop} {t : Nat} {ad : Nat → Nat} {K U : Nat → Int} {a b f : Int} {te : Tre} (h : TT hp W t ad K U a b f te) (e : ∀ q c, hp q = some c → W q → hp' q = some c) : TT hp' W t ad K U a b f te := by
  refine ⟨e _ _ h.1 h.2.1, h.2.1, h.2.2.frm (fun x hx => ?_)⟩
  obtain ⟨_, _, q1, q2, -⟩ := h.2.2.at hx
  rw [q1, e _ _ q1 q2]
section CR
variable {de : Nat} {hp hp' : AH} {W : Nat → Prop} {ax : Nat} {A : Nat → Nat} {t : Nat} {kt : Option Nat} {σ : MS} {ad : Nat → Nat} {s : SS}
theorem Sm.frm {a : Nat} (h : Sm de hp W a) (f : Frm W hp hp') : Sm de hp' W a := by
  obtain ⟨xs, h1, h2, h3⟩ := h
  exact ⟨xs, h1.frmO (fun q c hq hw => f.at hq hw), h2, fun i y hy => ⟨f.at (h3 i y hy).1 (h3 i y hy).2, (h3 i y hy).2⟩⟩
theorem Kp.frm (h : Kp hp W kt σ s) (f : Frm W hp hp') : Kp hp' W kt σ s := by
  rcases h with h | ⟨kk, h1, h2, h3⟩
  · exact Or.inl h
  · refine Or.inr ⟨kk, h1, h2, fun z => ?_⟩
    obtain ⟨adk, q1, q2⟩ := h3 z
    exact ⟨adk, q1.keep (fun q c hq hw => f.at hq hw), q2⟩
/-- nothing but new cells -/
theorem CH.ext (h : CH de hp W ax A t kt σ ad s) (f : Frm (Fsh hp) hp hp') : CH de hp' W ax A t kt σ ad s := by
  obtain ⟨h1, h2, h3, h5, h6⟩ := h
  have fw : Frm W hp hp' := f.wk (fun q hq => h2 q hq)
  exact ⟨h1.frm fw, fw.fre h2, h3.keep (fun q c hq _ => f.ex hq), h5.frm fw, h6.frm fw⟩
/-- one of the class's own cells is written: the object's or an array's -/
theorem own_keep (h : CH de hp W ax A t kt σ ad s) {a : Nat} {e e' : va_E} (ha : hp a = some e) (hw : ¬ W a) (hc : ∀ kd fs, kd < 6 → e ≠ .inr (5 + kd, fs)) (h1 : ∀ fs, e ≠ .inr (1, fs)) (hq : ∀ N f, e ≠ aQ N f) : Fre W (upH hp a e') ∧ TT (upH hp a e') W t ad (sC s).2.1 (sC s).2.2.1 (sA s) (sB s) (sF s) (sC s).1 ∧ Sm de (upH hp a e') W (A 10) ∧ Kp (upH hp a e') W kt σ s := by
  obtain ⟨g1, g2, g3, g5, g6⟩ := h
  refine ⟨?_, g3.keep (fun q c hq1 hw1 => (upH_n (fun z => hw (by rw [← z]; exact hw1))).trans hq1), ?_, ?_⟩
  · intro q hq1
    by_cases c : q = a
    · rw [c, upH_s] at hq1; cases hq1
    · rw [upH_n c] at hq1; exact g2 q hq1
  · obtain ⟨xs, ⟨arr, k1, k2, k3⟩, k4, k5⟩ := g5
    refine ⟨xs, ⟨arr, (upH_n (fun z => ?_)).trans k1, k2, k3.imp id (fun q => ⟨q.1, q.2.1, (upH_n (fun z => ?_)).trans q.2.2⟩)⟩, k4, fun i y hy => ⟨(upH_n (fun z => ?_)).trans (k5 i y hy).1, (k5 i y hy).2⟩⟩
    · rw [z, ha] at k1; exact hc 5 _ (by decide) (Option.some.inj k1)
    · have := q.2.2; rw [z, ha] at this; exact hq _ _ (Option.some.inj this)
    · have := (k5 i y hy).1
      rw [z, ha] at this
      have hi : i < xs.length := (List.getElem?_eq_some_iff.mp hy).1
      exact hc i _ (by omega) (Option.some.inj this)
  · rcases g6 with g6 | ⟨kk, q1, q2, q3⟩
    · exact Or.inl g6
    · refine Or.inr ⟨kk, q1, q2, fun z => ?_⟩
      obtain ⟨adk, r1, r2⟩ := q3 z
      refine ⟨adk, ⟨(upH_n (fun z => ?_)).trans r1.1, r1.2.1, r1.2.2.frm (fun x hx => upH_n (fun z => ?_))⟩, r2⟩
      · have := r1.1; rw [z, ha] at this; exact h1 _ (Option.some.inj this)
      · obtain ⟨_, _, p1, _, _, p4⟩ := r1.2.2.at hx
        rw [z, ha] at p1
        exact hc ((sK s).2.1 x).toNat _ (by omega) (Option.some.inj p1)
theorem CLog.cg {σ σ' : MS} {f n : Nat} {lg : List Int} (h : CLog σ f n lg) (e1 : σ'.1 n = σ.1 n) (e2 : σ'.2 f = σ.2 f) : CLog σ' f n lg := ⟨by rw [e1]; exact h.1, h.2.1, fun i hi => by rw [e2]; exact h.2.2 i hi⟩
theorem CSeen.cg {σ σ' : MS} {fk fw fc n : Nat} {sn : List (Int × Int × Int)} (h : CSeen σ fk fw fc n sn) (e1 : σ'.1 n = σ.1 n) (e2 : σ'.2 fk = σ.2 fk) (e3 : σ'.2 fw = σ.2 fw) (e4 : σ'.2 fc = σ.2 fc) : CSeen σ' fk fw fc n sn := ⟨by rw [e1]; exact h.1, h.2.1, fun i hi => by rw [e2, e3, e4]; exact h.2.2 i hi⟩
theorem Kp.cg {σ' : MS} {s' : SS} (h : Kp hp W kt σ s) (e : σ'.1 13 = σ.1 13 ∧ σ'.1 14 = σ.1 14 ∧ σ'.1 15 = σ.1 15) (e2 : ∀ f, 16 ≤ f → f ≤ 19 → σ'.2 f = σ.2 f) (es : sKn s' = sKn s ∧ sSh s' = sSh s ∧ sK s' = sK s ∧ sA s' = sA s ∧ sB s' = sB s ∧ sF s' = sF s) : Kp hp W kt σ' s' := by
  obtain ⟨s1, s2, s3, s4, s5, s6⟩ := es
  unfold Kp
  rw [s1, s2, s3, s4, s5, s6, e.1]
  rcases h with h | ⟨kk, h1, h2, h3⟩
  · exact Or.inl h
  · refine Or.inr ⟨kk, h1, h2, fun z => ?_⟩
    obtain ⟨adk, q1, q2, q3⟩ := h3 z
    exact ⟨adk, q1, q2.cg e.2.1 (e2 16 (by decide) (by decide)), q3.cg e.2.2 (e2 17 (by decide) (by decide)) (e2 18 (by decide) (by decide)) (e2 19 (by decide) (by decide))⟩
theorem Kp.rf {s : SS} {σ' : MS} (h : Kp hp W kt σ s) (e : σ'.1 13 = σ.1 13 ∧ σ'.1 14 = σ.1 14 ∧ σ'.1 15 = σ.1 15) (e2 : ∀ f, 16 ≤ f → f ≤ 19 → σ'.2 f = σ.2 f) : Kp hp W kt σ' s := h.cg e e2 ⟨rfl, rfl, rfl, rfl, rfl, rfl⟩
/-- a number of the class is written -/
theorem CH.wI (h : CH de hp W ax A t kt σ ad s) {f : Nat} {v : Int} (hf : f ≠ 13 ∧ f ≠ 14 ∧ f ≠ 15) : CH de (upH hp ax (xO A t kt (setI σ f v))) W ax A t kt (setI σ f v) ad s := by
  obtain ⟨k1, k2, k3, k4⟩ := own_keep h (e' := xO A t kt (setI σ f v)) h.1.1 h.1.2.1 (fun kd fs _ z => by have := congrArg Prod.fst (Sum.inr.inj z); simp at this; omega) (fun fs z => by have := congrArg Prod.fst (Sum.inr.inj z); simp at this) (fun N g z => by cases z)
  exact ⟨h.1.set rfl, k1, k2, k3, k4.rf ⟨setI_1n hf.1.symm, setI_1n hf.2.1.symm, setI_1n hf.2.2.symm⟩ (fun _ _ _ => rfl)⟩
/-- a place of one of its arrays -/
theorem CH.wA (h : CH de hp W ax A t kt σ ad s) {f : Nat} {i x : Int} (hf : xLen f ≠ 0) (hf2 : f < 16) : CH de (upH hp (A f) (aG (xTag f) (xLen f) (upg (σ.2 f) i x))) W ax A t kt (setA σ f i x) ad s := by
  obtain ⟨k1, k2, k3, k4⟩ := own_keep h (e' := aG (xTag f) (xLen f) (upg (σ.2 f) i x)) (h.1.2.2.1 f hf).1 (h.1.2.2.1 f hf).2 (fun kd fs _ z => by cases z) (fun fs z => by cases z) (fun N g z => by have q := congrArg (fun p : ClassId × vp_A => p.2.2) (Sum.inl.inj z); cases q)
  refine ⟨h.1.arr hf, k1, k2, k3, k4.rf ⟨rfl, rfl, rfl⟩ (fun g g1 g2 => ?_)⟩
  funext j
  exact setA_2o (by omega)
/-- the spec's state as the class sees it -/
theorem CH.sp {s' : SS} (h : CH de hp W ax A t kt σ ad s) (e : sC s' = sC s ∨ ((sC s').1 = (sC s).1 ∧ (sC s').2.1 = (sC s).2.1 ∧ (sC s').2.2.1 = (sC s).2.2.1)) (es : sKn s' = sKn s ∧ sSh s' = sSh s ∧ sK s' = sK s ∧ sA s' = sA s ∧ sB s' = sB s ∧ sF s' = sF s) : CH de hp W ax A t kt σ ad s' := by
  obtain ⟨h1, h2, h3, h5, h6⟩ := h
  have e : (sC s').1 = (sC s).1 ∧ (sC s').2.1 = (sC s).2.1 ∧ (sC s').2.2.1 = (sC s).2.2.1 := by
    rcases e with e | e
    · rw [e]; exact ⟨rfl, rfl, rfl⟩
    · exact e
  refine ⟨h1, h2, ?_, h5, h6.cg ⟨rfl, rfl, rfl⟩ (fun _ _ _ => rfl) es⟩
  rw [e.1, e.2.1, e.2.2, es.2.2.2.1, es.2.2.2.2.1, es.2.2.2.2.2]
  exact h3
end CR
theorem c_in (de : Nat) (hp : AH) (v a b : Int) (hv : -2147483648 ≤ v ∧ v ≤ 2147483647) (ha : -2147483648 ≤ a ∧ a ≤ 2147483647) (hb : -2147483648 ≤ b ∧ b ≤ 2147483647) : CtE de yX0_in cX0_in 3 (some .boolean) (rmK 1 0 0) [.int (iI v), .int (iI a), .int (iI b)] hp (rI (fun z hp' => z = bi (a ≤ v ∧ v ≤ b) ∧ hp' = hp)) := by
  refine CtE.of (by decide) (EL.c1 rfl (EL.c1 rfl (EL.c1 rfl EL.n0))) (fun Γ h hq hnm hde => ?_)
  refine v_iload_n (n' := 1) h dX0_in_0 rfl rfl ?_
  refine v_iload_n (n' := 2) h dX0_in_1 rfl rfl ?_
  refine v_icmp_lt (n' := 5) (tgt := 14) h dX0_in_2 rfl rfl (by omega) (by omega) (fun c2 => ?_) (fun c2 => ?_)
  · refine v_iconst (n' := 15) h dX0_in_14 rfl ?_
    refine v_zret h hq dX0_in_15 (by decide) (by omega) (by omega) (ret_i ?_)
    exact ⟨(bi_f (by omega)).symm, rfl⟩
  · refine v_iload_n (n' := 6) h dX0_in_5 rfl rfl ?_
    refine v_iload_n (n' := 7) h dX0_in_6 rfl rfl ?_
    refine v_icmp_gt (n' := 10) (tgt := 14) h dX0_in_7 rfl rfl (by omega) (by omega) (fun c7 => ?_) (fun c7 => ?_)
    · refine v_iconst (n' := 15) h dX0_in_14 rfl ?_
      refine v_zret h hq dX0_in_15 (by decide) (by omega) (by omega) (ret_i ?_)
      exact ⟨(bi_f (by omega)).symm, rfl⟩
    · refine v_iconst (n' := 11) h dX0_in_10 rfl ?_
      refine v_goto (tgt := 15) h dX0_in_11 rfl ?_
      refine v_zret h hq dX0_in_15 (by decide) (by omega) (by omega) (ret_i ?_)
      exact ⟨(bi_t (by omega)).symm, rfl⟩
theorem c_isRatio (de : Nat) (hp : AH) (a b : Int) (ha : -2147483648 ≤ a ∧ a ≤ 2147483647) (hb : -2147483648 ≤ b ∧ b ≤ 2147483647) : CtE de yX0_isRatio cX0_isRatio 2 (some .boolean) (rmK 2 0 0) [.int (iI a), .int (iI b)] hp (rI (fun z hp' => z = bi (isRat a b) ∧ hp' = hp)) := by
  refine CtE.of (by decide) (EL.c1 rfl (EL.c1 rfl EL.n0)) (fun Γ h hq hnm hde => ?_)
  refine v_iload_n (n' := 1) h dX0_isRatio_0 rfl rfl ?_
  refine v_iconst (n' := 2) h dX0_isRatio_1 rfl ?_
  refine v_iconst (n' := 3) h dX0_isRatio_2 rfl ?_
  refine vc_callS (n' := 6) h ((c_in de hp a 1 5 ha (by omega) (by omega)).d hde) (lw_S q255 q256 q82 q257) hdX0_in ⟨by omega, by decide⟩ ⟨by omega, by omega⟩ (Nat.le_of_ble_eq_true rfl) dX0_isRatio_3 rfl (eI fun z3 hp3 p3 => ?_) rfl
  obtain ⟨ez3, fz3⟩ := p3
  have ez3 := ez3.symm
  have fz3 := fz3.symm
  subst ez3 fz3
  refine v_bif_eq (n' := 9) (tgt := 31) h dX0_isRatio_6 rfl rfl (fun c6 => ?_) (fun c6 => ?_)
  · refine v_iconst (n' := 32) h dX0_isRatio_31 rfl ?_
    refine v_zret h hq dX0_isRatio_32 (by decide) (by omega) (by omega) (ret_i ?_)
    exact ⟨(bi_f (fun z => by unfold isRat at z; omega)).symm, rfl⟩
  · refine v_iload_n (n' := 10) h dX0_isRatio_9 rfl rfl ?_
    refine v_iload_n (n' := 11) h dX0_isRatio_10 rfl rfl ?_
    refine v_iconst (n' := 12) h dX0_isRatio_11 rfl ?_
    refine v_iadd (n' := 13) h dX0_isRatio_12 rfl ?_
    refine v_iconst (n' := 14) h dX0_isRatio_13 rfl ?_
    refine vc_callS (n' := 17) h ((c_in de hp b (a + 1) 5 hb (by omega) (by omega)).d hde) (lw_S q255 q256 q82 q257) hdX0_in ⟨by omega, by decide⟩ ⟨by omega, by omega⟩ (Nat.le_of_ble_eq_true rfl) dX0_isRatio_14 rfl (eI fun z14 hp14 p14 => ?_) rfl
    obtain ⟨ez14, fz14⟩ := p14
    have ez14 := ez14.symm
    have fz14 := fz14.symm
    subst ez14 fz14
    refine v_bif_eq (n' := 20) (tgt := 31) h dX0_isRatio_17 rfl rfl (fun c17 => ?_) (fun c17 => ?_)
    · refine v_iconst (n' := 32) h dX0_isRatio_31 rfl ?_
      refine v_zret h hq dX0_isRatio_32 (by decide) (by omega) (by omega) (ret_i ?_)
      exact ⟨(bi_f (fun z => by unfold isRat at z; omega)).symm, rfl⟩
    · refine v_iconst (n' := 21) h dX0_isRatio_20 rfl ?_
      refine v_iload_n (n' := 22) h dX0_isRatio_21 rfl rfl ?_
      refine v_imul (n' := 23) h dX0_isRatio_22 rfl ?_
      refine v_iload_n (n' := 24) h dX0_isRatio_23 rfl rfl ?_
      refine v_icmp_le (n' := 27) (tgt := 31) h dX0_isRatio_24 rfl rfl (by omega) (by omega) (fun c24 => ?_) (fun c24 => ?_)
      · refine v_iconst (n' := 32) h dX0_isRatio_31 rfl ?_
        refine v_zret h hq dX0_isRatio_32 (by decide) (by omega) (by omega) (ret_i ?_)
        exact ⟨(bi_f (fun z => by unfold isRat at z; omega)).symm, rfl⟩
      · refine v_iconst (n' := 28) h dX0_isRatio_27 rfl ?_
        refine v_goto (tgt := 32) h dX0_isRatio_28 rfl ?_
        refine v_zret h hq dX0_isRatio_32 (by decide) (by omega) (by omega) (ret_i ?_)
        exact ⟨(bi_t (by unfold isRat; omega)).symm, rfl⟩
theorem c_isShelf (de : Nat) (hp : AH) (ax : Nat) (A : Nat → Nat) (t : Nat) (kt : Option Nat) (σ : MS) (hx : hp ax = some (xO A t kt σ)) (hr : 0 ≤ σ.1 1 ∧ σ.1 1 ≤ 1000) : CtE de yX0_isShelf cX0_isShelf 1 (some .boolean) (rmK 1 0 0) [.ref ax] hp (rI (fun z hp' => z = bi (0 < σ.1 1) ∧ hp' = hp)) := by
  refine CtE.of (by decide) (EL.c1 rfl EL.n0) (fun Γ h hq hnm hde => ?_)
  refine v_aload_n (n' := 1) h dX0_isShelf_0 rfl rfl ?_
  refine v_get (n' := 4) (ci := 0) h rfl in_X0 1 (by decide) q189 rfl dX0_isShelf_1 rfl (by first | assumption | exact upH_s | exact (upH_n (by assumption)).trans (by assumption) | exact (upH_n (by assumption)).trans upH_s | exact (upH_n (by assumption)).trans ((upH_n (by assumption)).trans (by assumption))) (by rfl) ?_
  refine v_if_le (n' := 7) (tgt := 11) h dX0_isShelf_4 rfl rfl (by omega) (fun c4 => ?_) (fun c4 => ?_)
  · refine v_iconst (n' := 12) h dX0_isShelf_11 rfl ?_
    refine v_zret h hq dX0_isShelf_12 (by decide) (by omega) (by omega) (ret_i ?_)
    exact ⟨(bi_f (by omega)).symm, rfl⟩
  · refine v_iconst (n' := 8) h dX0_isShelf_7 rfl ?_
    refine v_goto (tgt := 12) h dX0_isShelf_8 rfl ?_
    refine v_zret h hq dX0_isShelf_12 (by decide) (by omega) (by omega) (ret_i ?_)
    exact ⟨(bi_t (by omega)).symm, rfl⟩
/-! the small ones -/
theorem x_r {σ : MS} {s : SS} {n : Int} (h : XS σ s) (hi : SInv s n) (hn : n ≤ 64) : (0 ≤ σ.1 1 ∧ σ.1 1 ≤ 64) ∧ (0 ≤ σ.1 3 ∧ σ.1 3 ≤ 54) ∧ (0 ≤ σ.1 5 ∧ σ.1 5 ≤ 60) ∧ (0 ≤ σ.1 6 ∧ σ.1 6 ≤ 6) := by
  obtain ⟨h1, h2, h3, h4, h5, -⟩ := h
  obtain ⟨i1, i2, i3, -⟩ := hi
  have e4 := h4.1
  have e5 := h5.1
  have l4 := h4.2.1
  have l5 := h5.2.1
  omega
theorem i2b_r {x : Int} (h : -128 ≤ x ∧ x ≤ 127) : (iI x).toInt8.toInt32 = iI x ∧ narrow .byte (.int (iI x)) = .int (iI x) := by
  have key : ∀ k : Fin 256, (iI ((k.val : Int) - 128)).toInt8.toInt32 = iI ((k.val : Int) - 128) := by decide +kernel
  have hk := key ⟨(x + 128).toNat, by omega⟩
  have e : (((x + 128).toNat : Nat) : Int) - 128 = x := by omega
  simp only at hk
  rw [e] at hk
  refine ⟨hk, ?_⟩
  have q := pk_nb (iI x)
  rw [hk] at q
  exact q
theorem k_letter (de : Nat) (hp : AH) (ax : Nat) (s : SS) (n : Int) (hC : CRel de hp ax s) (hi : SInv s n) (hn : n ≤ 64) (c : Int) (hc : -2147483648 ≤ c ∧ c ≤ 2147483647) : CtE de yX0_letter cX0_letter 2 (some .int) (rmK 2 0 0) [.ref ax, .int (iI c)] hp (rI (fun z hp' => z = (oLetter s c).1 ∧ CRel de hp' ax (oLetter s c).2)) := by
  obtain ⟨W, A, t, kt, σ, ad, hH, hX⟩ := hC
  have hr := x_r hX hi hn
  have hx := hH.1.1
  have h2 : hp (A 2) = some (aG 1 54 (σ.2 2)) := (hH.1.2.2.1 2 (by decide)).1
  have nA : A 2 ≠ ax := hH.1.na (by decide)
  have nA' := nA.symm
  unfold oLetter
  rw [← hX.2.1]
  refine CtE.of (by decide) (EL.c1 rfl (EL.c1 rfl EL.n0)) (fun Γ h hq hnm hde => ?_)
  refine v_iload_n (n' := 1) h dX0_letter_0 rfl rfl ?_
  refine v_iconst (n' := 2) h dX0_letter_1 rfl ?_
  refine v_bipush (n' := 4) h dX0_letter_2 rfl (by decide) ?_
  refine vc_callS (n' := 7) h ((c_in de hp c 1 126 hc (by omega) (by omega)).d hde) (lw_S q255 q256 q82 q257) hdX0_in ⟨by omega, by decide⟩ ⟨by omega, by omega⟩ (Nat.le_of_ble_eq_true rfl) dX0_letter_4 rfl (eI fun z4 hp4 p4 => ?_) rfl
  obtain ⟨ez4, fz4⟩ := p4
  have ez4 := ez4.symm
  have fz4 := fz4.symm
  subst ez4 fz4
  refine v_bif_ne (n' := 10) (tgt := 13) h dX0_letter_7 rfl rfl (fun c7 => ?_) (fun c7 => ?_)
  · refine v_aload_n (n' := 14) h dX0_letter_13 rfl rfl ?_
    refine v_get (n' := 17) (ci := 0) h rfl in_X0 3 (by decide) q193 rfl dX0_letter_14 rfl (by first | assumption | exact upH_s | exact (upH_n (by assumption)).trans (by assumption) | exact (upH_n (by assumption)).trans upH_s | exact (upH_n (by assumption)).trans ((upH_n (by assumption)).trans (by assumption))) (by rfl) ?_
    refine v_bipush (n' := 19) h dX0_letter_17 rfl (by decide) ?_
    refine v_icmp_ne (n' := 22) (tgt := 25) h dX0_letter_19 rfl rfl (by omega) (by omega) (fun c19 => ?_) (fun c19 => ?_)
    · refine v_aload_n (n' := 26) h dX0_letter_25 rfl rfl ?_
      refine v_get (n' := 29) (ci := 0) h rfl in_X0 2 (by decide) q191 rfl dX0_letter_26 rfl (by first | assumption | exact upH_s | exact (upH_n (by assumption)).trans (by assumption) | exact (upH_n (by assumption)).trans upH_s | exact (upH_n (by assumption)).trans ((upH_n (by assumption)).trans (by assumption))) (by rfl) ?_
      refine v_aload_n (n' := 30) h dX0_letter_29 rfl rfl ?_
      refine v_get (n' := 33) (ci := 0) h rfl in_X0 3 (by decide) q193 rfl dX0_letter_30 rfl (by first | assumption | exact upH_s | exact (upH_n (by assumption)).trans (by assumption) | exact (upH_n (by assumption)).trans upH_s | exact (upH_n (by assumption)).trans ((upH_n (by assumption)).trans (by assumption))) (by rfl) ?_
      refine v_iload_n (n' := 34) h dX0_letter_33 rfl rfl ?_
      refine v_i2b (n' := 35) h dX0_letter_34 rfl (i2b_r (by omega)).1 ?_
      refine v_gbast (n' := 36) h dX0_letter_35 rfl (by first | assumption | exact upH_s | exact (upH_n (by assumption)).trans (by assumption) | exact (upH_n (by assumption)).trans upH_s | exact (upH_n (by assumption)).trans ((upH_n (by assumption)).trans (by assumption))) (by omega) (by omega) (i2b_r (by omega)).2 ?_
      refine v_aload_n (n' := 37) h dX0_letter_36 rfl rfl ?_
      refine v_dup (n' := 38) h dX0_letter_37 rfl rfl ?_
      refine v_get (n' := 41) (ci := 0) h rfl in_X0 3 (by decide) q193 rfl dX0_letter_38 rfl (by first | assumption | exact upH_s | exact (upH_n (by assumption)).trans (by assumption) | exact (upH_n (by assumption)).trans upH_s | exact (upH_n (by assumption)).trans ((upH_n (by assumption)).trans (by assumption))) (by rfl) ?_
      refine v_iconst (n' := 42) h dX0_letter_41 rfl ?_
      refine v_iadd (n' := 43) h dX0_letter_42 rfl ?_
      refine v_put (n' := 46) (ci := 0) h rfl in_X0 tyX0 tyX0_ok nmX0 3 (by decide) q193 rfl rfl dX0_letter_43 rfl (by first | assumption | exact upH_s | exact (upH_n (by assumption)).trans (by assumption) | exact (upH_n (by assumption)).trans upH_s | exact (upH_n (by assumption)).trans ((upH_n (by assumption)).trans (by assumption))) (by show 3 < 20; decide) rfl rfl ?_
      refine v_aload_n (n' := 47) h dX0_letter_46 rfl rfl ?_
      refine v_get (n' := 50) (ci := 0) h rfl in_X0 3 (by decide) q193 rfl dX0_letter_47 rfl (by first | assumption | exact upH_s | exact (upH_n (by assumption)).trans (by assumption) | exact (upH_n (by assumption)).trans upH_s | exact (upH_n (by assumption)).trans ((upH_n (by assumption)).trans (by assumption))) (by rfl) ?_
      refine v_iret h hq dX0_letter_50 (by omega) (by omega) (ret_i ?_)
      rw [if_neg (fun z => z c7), if_neg c19]
      refine ⟨rfl, W, A, t, kt, setI (setA σ 2 (σ.1 3) c) 3 (σ.1 3 + 1), ad, ?_, ?_⟩
      · exact ((hH.wA (f := 2) (i := σ.1 3) (x := c) (by decide) (by decide)).wI (f := 3) (v := σ.1 3 + 1) (by decide)).sp (Or.inl rfl) ⟨rfl, rfl, rfl, rfl, rfl, rfl⟩
      · obtain ⟨x1, x2, x3, x4, x5, x6⟩ := hX
        refine ⟨x1, rfl, fun i i1 i2 => ?_, x4.cg rfl rfl, x5.cg rfl rfl rfl rfl, x6⟩
        show (if 2 = 2 ∧ i = σ.1 3 then c else σ.2 2 i) = (if i = σ.1 3 then c else sPg s i)
        by_cases ci : i = σ.1 3
        · rw [if_pos ci, if_pos ⟨rfl, ci⟩]
        · rw [if_neg ci, if_neg (fun z => ci z.2)]; exact x3 i i1 i2
    · refine v_bipush (n' := 24) h dX0_letter_22 rfl (by decide) ?_
      refine v_iret h hq dX0_letter_24 (by omega) (by omega) (ret_i ?_)
      rw [if_neg (fun z => z c7), if_pos c19]; exact ⟨rfl, W, A, t, kt, σ, ad, hH, hX⟩
  · refine v_bipush (n' := 12) h dX0_letter_10 rfl (by decide) ?_
    refine v_iret h hq dX0_letter_12 (by omega) (by omega) (ret_i ?_)
    rw [if_pos c7]; exact ⟨rfl, W, A, t, kt, σ, ad, hH, hX⟩
theorem k_blank (de : Nat) (hp : AH) (ax : Nat) (s : SS) (n : Int) (hC : CRel de hp ax s) (hi : SInv s n) (hn : n ≤ 64) : CtE de yX0_blank cX0_blank 2 (some .int) (rmK 1 0 0) [.ref ax] hp (rI (fun z hp' => z = (oBlank s).1 ∧ CRel de hp' ax (oBlank s).2)) := by
  obtain ⟨W, A, t, kt, σ, ad, hH, hX⟩ := hC
  have hr := x_r hX hi hn
  have hx := hH.1.1
  unfold oBlank
  rw [← hX.2.1]
  refine CtE.of (by decide) (EL.c1 rfl (EL.nn EL.n0)) (fun Γ h hq hnm hde => ?_)
  refine v_aload_n (n' := 1) h dX0_blank_0 rfl rfl ?_
  refine v_get (n' := 4) (ci := 0) h rfl in_X0 3 (by decide) q193 rfl dX0_blank_1 rfl (by first | assumption | exact upH_s | exact (upH_n (by assumption)).trans (by assumption) | exact (upH_n (by assumption)).trans upH_s | exact (upH_n (by assumption)).trans ((upH_n (by assumption)).trans (by assumption))) (by rfl) ?_
  refine v_istore1 (n' := 5) h dX0_blank_4 rfl rfl ?_
  refine v_aload_n (n' := 6) h dX0_blank_5 rfl rfl ?_
  refine v_iconst (n' := 7) h dX0_blank_6 rfl ?_
  refine v_put (n' := 10) (ci := 0) h rfl in_X0 tyX0 tyX0_ok nmX0 3 (by decide) q193 rfl rfl dX0_blank_7 rfl (by first | assumption | exact upH_s | exact (upH_n (by assumption)).trans (by assumption) | exact (upH_n (by assumption)).trans upH_s | exact (upH_n (by assumption)).trans ((upH_n (by assumption)).trans (by assumption))) (by show 3 < 20; decide) rfl rfl ?_
  refine v_iload_n (n' := 11) h dX0_blank_10 rfl rfl ?_
  refine v_iret h hq dX0_blank_11 (by omega) (by omega) (ret_i ?_)
  refine ⟨rfl, W, A, t, kt, setI σ 3 0, ad, ?_, ?_⟩
  · exact (hH.wI (f := 3) (v := 0) (by decide)).sp (Or.inl rfl) ⟨rfl, rfl, rfl, rfl, rfl, rfl⟩
  · obtain ⟨x1, x2, x3, x4, x5, x6⟩ := hX
    exact ⟨x1, rfl, x3, x4.cg rfl rfl, x5.cg rfl rfl rfl rfl, x6⟩
theorem c_countOf (de : Nat) (hp : AH) (ax : Nat) (s : SS) (n : Int) (hC : CRel de hp ax s) (hi : SInv s n) (hn : n ≤ 64) (what : Int) (hw : -2147483648 ≤ what ∧ what ≤ 2147483647) : CtE de yX0_countOf cX0_countOf 2 (some .int) (rmK 1 0 0) [.ref ax, .int (iI what)] hp (rI (fun z hp' => z = oCount s what ∧ hp' = hp)) := by
  obtain ⟨W, A, t, kt, σ, ad, hH, hX⟩ := hC
  have hr := x_r hX hi hn
  have hx := hH.1.1
  have ht := hH.2.2.1.1
  obtain ⟨x1, x2, x3, x4, x5, x6⟩ := hX
  unfold oCount
  refine CtE.of (by decide) (EL.c1 rfl (EL.c1 rfl EL.n0)) (fun Γ h hq hnm hde => ?_)
  refine v_iload_n (n' := 1) h dX0_countOf_0 rfl rfl ?_
  refine v_table8 (t0 := 48) (t1 := 56) (t2 := 64) (t3 := 72) (t4 := 80) (t5 := 85) (t6 := 90) (t7 := 95) (td := 100) h dX0_countOf_1 (by omega) rfl rfl rfl rfl rfl rfl rfl rfl rfl rfl (fun s1 => ?_) (fun s1 => ?_) (fun s1 => ?_) (fun s1 => ?_) (fun s1 => ?_) (fun s1 => ?_) (fun s1 => ?_) (fun s1 => ?_) (fun s1 => ?_)
  · refine v_aload_n (n' := 49) h dX0_countOf_48 rfl rfl ?_
    refine v_get (n' := 52) (ci := 0) h rfl in_X0 0 (by decide) q188 rfl dX0_countOf_49 rfl (by first | assumption | exact upH_s | exact (upH_n (by assumption)).trans (by assumption) | exact (upH_n (by assumption)).trans upH_s | exact (upH_n (by assumption)).trans ((upH_n (by assumption)).trans (by assumption))) (by rfl) ?_
    refine v_getN (n' := 55) (ci := 1) h rfl in_X1 4 (by decide) q127 rfl dX0_countOf_52 rfl (by first | assumption | exact upH_s | exact (upH_n (by assumption)).trans (by assumption) | exact (upH_n (by assumption)).trans upH_s | exact (upH_n (by assumption)).trans ((upH_n (by assumption)).trans (by assumption))) (by rfl) ?_
    refine v_iret h hq dX0_countOf_55 (by omega) (by omega) (ret_i ?_)
    exact ⟨by rw [if_pos s1], rfl⟩
  · refine v_aload_n (n' := 57) h dX0_countOf_56 rfl rfl ?_
    refine v_get (n' := 60) (ci := 0) h rfl in_X0 0 (by decide) q188 rfl dX0_countOf_57 rfl (by first | assumption | exact upH_s | exact (upH_n (by assumption)).trans (by assumption) | exact (upH_n (by assumption)).trans upH_s | exact (upH_n (by assumption)).trans ((upH_n (by assumption)).trans (by assumption))) (by rfl) ?_
    refine v_getN (n' := 63) (ci := 1) h rfl in_X1 1 (by decide) q121 rfl dX0_countOf_60 rfl (by first | assumption | exact upH_s | exact (upH_n (by assumption)).trans (by assumption) | exact (upH_n (by assumption)).trans upH_s | exact (upH_n (by assumption)).trans ((upH_n (by assumption)).trans (by assumption))) (by rfl) ?_
    refine v_iret h hq dX0_countOf_63 (by omega) (by omega) (ret_i ?_)
    exact ⟨by rw [if_neg (by omega), if_pos s1], rfl⟩
  · refine v_aload_n (n' := 65) h dX0_countOf_64 rfl rfl ?_
    refine v_get (n' := 68) (ci := 0) h rfl in_X0 0 (by decide) q188 rfl dX0_countOf_65 rfl (by first | assumption | exact upH_s | exact (upH_n (by assumption)).trans (by assumption) | exact (upH_n (by assumption)).trans upH_s | exact (upH_n (by assumption)).trans ((upH_n (by assumption)).trans (by assumption))) (by rfl) ?_
    refine v_getN (n' := 71) (ci := 1) h rfl in_X1 2 (by decide) q123 rfl dX0_countOf_68 rfl (by first | assumption | exact upH_s | exact (upH_n (by assumption)).trans (by assumption) | exact (upH_n (by assumption)).trans upH_s | exact (upH_n (by assumption)).trans ((upH_n (by assumption)).trans (by assumption))) (by rfl) ?_
    refine v_iret h hq dX0_countOf_71 (by omega) (by omega) (ret_i ?_)
    exact ⟨by rw [if_neg (by omega), if_neg (by omega), if_pos s1], rfl⟩
  · refine v_aload_n (n' := 73) h dX0_countOf_72 rfl rfl ?_
    refine v_get (n' := 76) (ci := 0) h rfl in_X0 0 (by decide) q188 rfl dX0_countOf_73 rfl (by first | assumption | exact upH_s | exact (upH_n (by assumption)).trans (by assumption) | exact (upH_n (by assumption)).trans upH_s | exact (upH_n (by assumption)).trans ((upH_n (by assumption)).trans (by assumption))) (by rfl) ?_
    refine v_getN (n' := 79) (ci := 1) h rfl in_X1 3 (by decide) q125 rfl dX0_countOf_76 rfl (by first | assumption | exact upH_s | exact (upH_n (by assumption)).trans (by assumption) | exact (upH_n (by assumption)).trans upH_s | exact (upH_n (by assumption)).trans ((upH_n (by assumption)).trans (by assumption))) (by rfl) ?_
    refine v_iret h hq dX0_countOf_79 (by omega) (by omega) (ret_i ?_)
    exact ⟨by rw [if_neg (by omega), if_neg (by omega), if_neg (by omega), if_pos s1], rfl⟩
  · refine v_aload_n (n' := 81) h dX0_countOf_80 rfl rfl ?_
    refine v_get (n' := 84) (ci := 0) h rfl in_X0 5 (by decide) q195 rfl dX0_countOf_81 rfl (by first | assumption | exact upH_s | exact (upH_n (by assumption)).trans (by assumption) | exact (upH_n (by assumption)).trans upH_s | exact (upH_n (by assumption)).trans ((upH_n (by assumption)).trans (by assumption))) (by rfl) ?_
    refine v_iret h hq dX0_countOf_84 (by omega) (by omega) (ret_i ?_)
    exact ⟨by rw [if_neg (by omega), if_neg (by omega), if_neg (by omega), if_neg (by omega), if_pos s1]; exact x4.1, rfl⟩
  · refine v_aload_n (n' := 86) h dX0_countOf_85 rfl rfl ?_
    refine v_get (n' := 89) (ci := 0) h rfl in_X0 6 (by decide) q196 rfl dX0_countOf_86 rfl (by first | assumption | exact upH_s | exact (upH_n (by assumption)).trans (by assumption) | exact (upH_n (by assumption)).trans upH_s | exact (upH_n (by assumption)).trans ((upH_n (by assumption)).trans (by assumption))) (by rfl) ?_
    refine v_iret h hq dX0_countOf_89 (by omega) (by omega) (ret_i ?_)
    exact ⟨by rw [if_neg (by omega), if_neg (by omega), if_neg (by omega), if_neg (by omega), if_neg (by omega), if_pos s1]; exact x5.1, rfl⟩
  · refine v_aload_n (n' := 91) h dX0_countOf_90 rfl rfl ?_
    refine v_get (n' := 94) (ci := 0) h rfl in_X0 3 (by decide) q193 rfl dX0_countOf_91 rfl (by first | assumption | exact upH_s | exact (upH_n (by assumption)).trans (by assumption) | exact (upH_n (by assumption)).trans upH_s | exact (upH_n (by assumption)).trans ((upH_n (by assumption)).trans (by assumption))) (by rfl) ?_
    refine v_iret h hq dX0_countOf_94 (by omega) (by omega) (ret_i ?_)
    exact ⟨by rw [if_neg (by omega), if_neg (by omega), if_neg (by omega), if_neg (by omega), if_neg (by omega), if_neg (by omega), if_pos s1]; exact x2, rfl⟩
  · refine v_aload_n (n' := 96) h dX0_countOf_95 rfl rfl ?_
    refine v_get (n' := 99) (ci := 0) h rfl in_X0 1 (by decide) q189 rfl dX0_countOf_96 rfl (by first | assumption | exact upH_s | exact (upH_n (by assumption)).trans (by assumption) | exact (upH_n (by assumption)).trans upH_s | exact (upH_n (by assumption)).trans ((upH_n (by assumption)).trans (by assumption))) (by rfl) ?_
    refine v_iret h hq dX0_countOf_99 (by omega) (by omega) (ret_i ?_)
    exact ⟨by rw [if_neg (by omega), if_neg (by omega), if_neg (by omega), if_neg (by omega), if_neg (by omega), if_neg (by omega), if_neg (by omega), if_pos s1]; exact x1, rfl⟩
  · refine v_bipush (n' := 102) h dX0_countOf_100 rfl (by decide) ?_
    refine v_iret h hq dX0_countOf_102 (by omega) (by omega) (ret_i ?_)
    exact ⟨by rw [if_neg (by omega), if_neg (by omega), if_neg (by omega), if_neg (by omega), if_neg (by omega), if_neg (by omega), if_neg (by omega), if_neg (by omega)], rfl⟩
theorem k_count (de : Nat) (hp : AH) (ax : Nat) (s : SS) (n : Int) (hC : CRel de hp ax s) (hi : SInv s n) (hn : n ≤ 64) (what : Int) (hw : -2147483648 ≤ what ∧ what ≤ 2147483647) : CtE de yX0_count cX0_count 2 (some .int) (rmK 2 0 0) [.ref ax, .int (iI what)] hp (rI (fun z hp' => z = oCount s what ∧ CRel de hp' ax s)) := by
  have hC2 := hC
  obtain ⟨W, A, t, kt, σ, ad, hH, hX⟩ := hC2
  have hx := hH.1.1
  refine CtE.of (by decide) (EL.c1 rfl (EL.c1 rfl EL.n0)) (fun Γ h hq hnm hde => ?_)
  refine v_aload_n (n' := 1) h dX0_count_0 rfl rfl ?_
  refine v_iload_n (n' := 2) h dX0_count_1 rfl rfl ?_
  refine vc_callV (n' := 5) (ci := 0) h ((c_countOf de hp ax s n hC hi hn what hw).d hde) rfl (by first | assumption | exact upH_s | exact (upH_n (by assumption)).trans (by assumption) | exact (upH_n (by assumption)).trans upH_s | exact (upH_n (by assumption)).trans ((upH_n (by assumption)).trans (by assumption))) (lw_V q909 q911 qs35 q82 q912) hdX0_countOf ⟨by omega, by decide⟩ ⟨by omega, by omega⟩ (Nat.le_of_ble_eq_true rfl) dX0_count_2 rfl (eI fun z2 hp2 p2 => ?_) rfl
  obtain ⟨ez2, fz2⟩ := p2
  have ez2 := ez2.symm
  have fz2 := fz2.symm
  subst ez2 fz2
  refine v_iret h hq dX0_count_5 (by omega) (by omega) (ret_i ?_)
  exact ⟨rfl, hC⟩
theorem k_forget (de : Nat) (hp : AH) (ax : Nat) (s : SS) (n : Int) (hC : CRel de hp ax s) (hi : SInv s n) (hn : n ≤ 64) : CtE de yX0_forget cX0_forget 2 (some .int) (rmK 1 0 0) [.ref ax] hp (rI (fun z hp' => z = (oForget s).1 ∧ CRel de hp' ax (oForget s).2)) := by
  obtain ⟨W, A, t, kt, σ, ad, hH, hX⟩ := hC
  have hr := x_r hX hi hn
  have hx := hH.1.1
  unfold oForget
  refine CtE.of (by decide) (EL.c1 rfl (EL.nn EL.n0)) (fun Γ h hq hnm hde => ?_)
  refine v_aload_n (n' := 1) h dX0_forget_0 rfl rfl ?_
  refine v_get (n' := 4) (ci := 0) h rfl in_X0 6 (by decide) q196 rfl dX0_forget_1 rfl (by first | assumption | exact upH_s | exact (upH_n (by assumption)).trans (by assumption) | exact (upH_n (by assumption)).trans upH_s | exact (upH_n (by assumption)).trans ((upH_n (by assumption)).trans (by assumption))) (by rfl) ?_
  refine v_istore1 (n' := 5) h dX0_forget_4 rfl rfl ?_
  refine v_aload_n (n' := 6) h dX0_forget_5 rfl rfl ?_
  refine v_iconst (n' := 7) h dX0_forget_6 rfl ?_
  refine v_put (n' := 10) (ci := 0) h rfl in_X0 tyX0 tyX0_ok nmX0 6 (by decide) q196 rfl rfl dX0_forget_7 rfl (by first | assumption | exact upH_s | exact (upH_n (by assumption)).trans (by assumption) | exact (upH_n (by assumption)).trans upH_s | exact (upH_n (by assumption)).trans ((upH_n (by assumption)).trans (by assumption))) (by show 6 < 20; decide) rfl rfl ?_
  refine v_iload_n (n' := 11) h dX0_forget_10 rfl rfl ?_
  refine v_iret h hq dX0_forget_11 (by omega) (by omega) (ret_i ?_)
  refine ⟨hX.2.2.2.2.1.1, W, A, t, kt, setI σ 6 0, ad, ?_, ?_⟩
  · exact (hH.wI (f := 6) (v := 0) (by decide)).sp (Or.inr ⟨rfl, rfl, rfl⟩) ⟨rfl, rfl, rfl, rfl, rfl, rfl⟩
  · obtain ⟨x1, x2, x3, x4, x5, x6⟩ := hX
    exact ⟨x1, x2, x3, x4.cg rfl rfl, ⟨rfl, (show 0 ≤ 6 by decide), fun i hi => absurd hi (Nat.not_lt_zero i)⟩, x6⟩
