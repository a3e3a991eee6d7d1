/-! THE READER: one entry -/
set_option maxRecDepth 100000
def Pre (g : Int → Int) (n P : Int) : Prop := 0 ≤ P ∧ P ≤ n ∧ ∀ j, 0 ≤ j → j < P → Good g j
theorem Pre.flt {g : Int → Int} {n P : Int} (h : Pre g n P) (k : P < n → ¬ Good g P) : Flt g n P := ⟨h.1, h.2.1, h.2.2, k⟩
theorem Pre.next {g : Int → Int} {n P P' : Int} (h : Pre g n P) (k : P < n) (k2 : Good g P) (e : P + 1 = P') : Pre g n P' := by
  subst e
  refine ⟨by have := h.1; omega, by omega, fun j h0 hj => ?_⟩
  by_cases c : j = P
  · rw [c]; exact k2
  · exact h.2.2 j h0 (by omega)
theorem nx_p {g : Int → Int} {n p : Int} (h : p < n) : nx g n p = g p := by unfold nx; rw [if_pos h]
theorem nx_e {g : Int → Int} {n p y : Int} (h : nx g n p = y) (hy : y ≠ 0) : p < n ∧ g p = y := by
  obtain ⟨q1, q2⟩ := nx_lt (g := g) (n := n) (p := p) (by rw [h]; exact hy)
  exact ⟨q1, q2.symm.trans h⟩
theorem nx_d {g : Int → Int} {n p lo hi : Int} (h : lo ≤ nx g n p - 48 ∧ nx g n p - 48 ≤ hi) (hl : 0 ≤ lo) : p < n ∧ nx g n p = g p := nx_lt (by omega)
theorem good5 {g : Int → Int} {q : Nat} {P : Int} (hP : P = 5 + 6 * (q : Int)) : (Good g P ↔ kindBy (g P) ≠ -1) ∧ (Good g (P + 1) ↔ digit (g (P + 1))) ∧ (Good g (P + 2) ↔ digit (g (P + 2)) ∧ ¬ Told g q (KeyAt g (P + 1))) ∧ (Good g (P + 3) ↔ g (P + 3) = 61) ∧ (Good g (P + 4) ↔ digit (g (P + 4))) ∧ (Good g (P + 5) ↔ g (P + 5) = 44 ∧ q < 7) := by
  have es : ∀ i : Int, 0 ≤ i → i < 6 → Good g (P + i) = ESign g q i := by
    intro i h0 h6
    unfold Good
    rw [if_neg (by omega), if_neg (by omega), if_neg (by omega), if_neg (by omega), show ((P + i - 5) / 6).toNat = q by omega, show (P + i - 5) % 6 = i by omega]
  have e0 := es 0 (by omega) (by omega)
  rw [Int.add_zero] at e0
  rw [e0, es 1 (by omega) (by omega), es 2 (by omega) (by omega), es 3 (by omega) (by omega), es 4 (by omega) (by omega), es 5 (by omega) (by omega), show P + 1 = 6 + 6 * (q : Int) by omega, show P + 2 = 7 + 6 * (q : Int) by omega, show P + 3 = 8 + 6 * (q : Int) by omega, show P + 4 = 9 + 6 * (q : Int) by omega, show P + 5 = 10 + 6 * (q : Int) by omega, hP]
  exact ⟨Iff.rfl, Iff.rfl, Iff.rfl, Iff.rfl, Iff.rfl, Iff.rfl⟩
theorem RS.pl {de : Nat} {hp0 hp : AH} {r el ax : Nat} {p p' a b f : Int} {xs : List Nat} {g : Int → Int} (h : RS de hp0 hp r el ax p a b f xs g) (e : p = p') : RS de hp0 hp r el ax p' a b f xs g := by subst e; exact h
section RE
variable {Γ : GX} {de : Nat} {hp0 : AH} {r el ax : Nat} {a b f n : Int} {xs : List Nat} {g : Int → Int} {P : Int}
def KRt (Γ : GX) (de : Nat) (hp0 : AH) (r el ax : Nat) (a b f n : Int) (xs : List Nat) (g : Int → Int) (P : Int) : Prop := ∀ y k m hp' L, k ≤ 1 + (acC (xs.length + 1) - acC xs.length) → m ≤ 7 + (acS (xs.length + 1) - acS xs.length) → RS de hp0 hp' r el ax (P + 5) a b f (xs ++ [y]) g → Pre g n (P + 5) → V Γ k m hp' 176 L []
def KTt (Γ : GX) (hp0 : AH) (n : Int) (xs : List Nat) (g : Int → Int) (P : Int) : Prop := ∀ pc L st z x hp', Flt g n z → z < P + 5 → StpO hp' x z → Frm (Fsh hp0) hp0 hp' → VT Γ (1 + (acC (xs.length + 1) - acC xs.length)) (7 + (acS (xs.length + 1) - acS xs.length)) hp' pc L st x
theorem KTt.go (h : KTt Γ hp0 n xs g P) {k m pc : Nat} {L : List (Option Value)} {st : List Value} {z : Int} {x : Nat} {hp hp' : AH} (hk : k ≤ 1 + (acC (xs.length + 1) - acC xs.length)) (hm : m ≤ 7 + (acS (xs.length + 1) - acS xs.length)) (R : RS de hp0 hp r el ax z a b f xs g) (hs : StpO hp' x z) (F : Frm (Fsh hp) hp hp') (hp1 : Pre g n z) (hz : z < P + 5) (hb : z < n → ¬ Good g z) : VT Γ k m hp' pc L st x :=
  VT.widen hk hm (h pc L st z x hp' (hp1.flt hb) hz hs (R.stop F))
theorem re_D (h : Ok0 cX3_entry yX3_entry.cls none (rmK 8 (1 + (acC (xs.length + 1) - acC xs.length)) (7 + (acS (xs.length + 1) - acS xs.length))) Γ) (hde : (gD Γ).2.2.1 = de) (hP : PG hp0 ax n g) (hx : xs.length ≤ 7) (hPe : P = 5 + 6 * (xs.length : Int)) (KR : KRt Γ de hp0 r el ax a b f n xs g P) (KT : KTt Γ hp0 n xs g P)
    (kd : Nat) (d1 : Int) (hp : AH) (hkd : kd < 5) (hkd2 : (kd : Int) = kindBy (g P)) (R1 : RS de hp0 hp r el ax (P + 3) a b f xs g) (hpre : Pre g n (P + 3)) : V Γ 0 0 hp 146 [some (.ref r), some (.int (iI kd)), some (.int (iI d1)), some (.int (iI (KeyAt g (P + 1))))] [] := by
  obtain ⟨-, -, -, G3, G4, -⟩ := good5 (g := g) hPe
  have hz1 := hpre.1
  have hz2 := hpre.2.1
  have hn54 := hP.1.2
  have hr := R1.2.1
  have hP1 := R1.pg hP
  refine v_aload_n (n' := 147) h dX3_entry_146 rfl rfl ?_
  refine v_aload_n (n' := 148) h dX3_entry_147 rfl rfl ?_
  refine v_bipush (n' := 150) h dX3_entry_148 rfl (by decide) ?_
  refine v_takes (n' := 153) h hde (p := P + 3) hP1 (by omega) (by first | assumption | exact upH_s | exact (upH_n (by assumption)).trans (by assumption) | exact (upH_n (by assumption)).trans upH_s | exact (upH_n (by assumption)).trans ((upH_n (by assumption)).trans (by assumption))) (lw_V q381 q383 qs4 q88 q384) (by omega) ⟨by omega, by omega⟩ (Nat.le_of_ble_eq_true rfl) dX3_entry_150 rfl (fun c150 => ?_) (fun c150 => ?_)
  · have R2 := R1.set (P + 3 + 1) a b f
    have hP2 := R2.pg hP
    have q3 := nx_e c150 (by decide)
    have pre2 := hpre.next (P' := P + 3 + 1) q3.1 (G3.mpr q3.2) rfl
    refine vc_callV (n' := 156) (ci := 3) h ((c_want de _ r).d hde) rfl (by first | assumption | exact upH_s | exact (upH_n (by assumption)).trans (by assumption) | exact (upH_n (by assumption)).trans upH_s | exact (upH_n (by assumption)).trans ((upH_n (by assumption)).trans (by assumption))) (lw_V q311 q313 qs2 q88 q314) hdX3_want ⟨by omega, by decide⟩ ⟨by omega, by omega⟩ (Nat.le_of_ble_eq_true rfl) dX3_entry_153 rfl (eV fun hp153 p153 => ?_) rfl
    have p153 := p153.symm
    subst p153
    refine v_aload_n (n' := 157) h dX3_entry_156 rfl rfl ?_
    refine v_get (n' := 160) (ci := 3) h rfl in_X3 4 (by decide) q282 rfl dX3_entry_157 rfl (by first | assumption | exact upH_s | exact (upH_n (by assumption)).trans (by assumption) | exact (upH_n (by assumption)).trans upH_s | exact (upH_n (by assumption)).trans ((upH_n (by assumption)).trans (by assumption))) (by rfl) ?_
    refine v_iload_n (n' := 161) h dX3_entry_160 rfl rfl ?_
    refine v_iload_n (n' := 162) h dX3_entry_161 rfl rfl ?_
    refine v_aload_n (n' := 163) h dX3_entry_162 rfl rfl ?_
    refine v_iconst (n' := 164) h dX3_entry_163 rfl ?_
    refine v_bipush (n' := 166) h dX3_entry_164 rfl (by decide) ?_
    refine v_digit (n' := 169) h hde (p := P + 3 + 1) hP2 (by omega) (by first | assumption | exact upH_s | exact (upH_n (by assumption)).trans (by assumption) | exact (upH_n (by assumption)).trans upH_s | exact (upH_n (by assumption)).trans ((upH_n (by assumption)).trans (by assumption))) (lw_V q302 q304 qs0 q88 q305) (by omega) ⟨by omega, by omega⟩ (Nat.le_of_ble_eq_true rfl) dX3_entry_166 rfl (fun c166 x166 hp166 s166 f166 => ?_) (fun c166 => ?_)
    · refine KT.go (by omega) (by omega) R2 s166 f166 pre2 (by omega) (fun w => ?_)
      rw [nx_p w] at c166
      rw [show P + 3 + 1 = P + 4 by omega] at c166 ⊢
      rw [G4]
      unfold digit
      omega
    · have q4 := nx_d c166 (by decide)
      have R3 := R2.set (P + 3 + 1 + 1) a b f
      have pre3 := pre2.next (P' := P + 5) q4.1 (by
        rw [q4.2] at c166
        rw [show P + 3 + 1 = P + 4 by omega] at c166 ⊢
        rw [G4]
        unfold digit
        omega) (by omega)
      refine vc_callSN (n' := 172) h ((c_made de _ kd (KeyAt g (P + 1)) (nx g n (P + 3 + 1) - 48) hkd).d hde) q414 q82 q412 q413 hdX0_made ⟨by omega, by decide⟩ ⟨by omega, by omega⟩ (Nat.le_of_ble_eq_true rfl) dX3_entry_169 rfl (eR fun z169 hp169 p169 => ?_) rfl
      obtain ⟨hz169, e169⟩ := p169
      subst e169
      have M := R3.made hz169 (eO kd (KeyAt g (P + 1)) (nx g n (P + 3 + 1) - 48) none none)
      obtain ⟨m1, m2, m3, m4, m5⟩ := M
      have m6 : En (upH (upH (upH hp r (rO (P + 3 + 1) a b f el ax)) r (rO (P + 3 + 1 + 1) a b f el ax)) z169 (eO kd (KeyAt g (P + 1)) (nx g n (P + 3 + 1) - 48) none none)) xs := by
        intro y hy
        obtain ⟨j, hj⟩ := List.getElem?_of_mem hy
        have := kindBy_r (g (5 + 6 * (j : Int)))
        exact ⟨_, _, by omega, (m5 j y hj).2.2⟩
      have m3b := m3
      obtain ⟨arr, hl1, -, -⟩ := m3b
      refine vc_callV (n' := 175) (ci := 10) h ((c_add de _ (RW hp0 r (xs ++ [z169])) el z169 kd _ xs m3 (by omega) m6 m4 hkd upH_s).d hde) rfl (by first | assumption | exact upH_s | exact (upH_n (by assumption)).trans (by assumption) | exact (upH_n (by assumption)).trans upH_s | exact (upH_n (by assumption)).trans ((upH_n (by assumption)).trans (by assumption))) (lw_V q482 q483 q484 q86 q485) hdJ2_add ⟨by omega, by decide⟩ ⟨by omega, by omega⟩ (Nat.le_of_ble_eq_true rfl) dX3_entry_172 rfl (eI fun z172 hp172 p172 => ?_) rfl
      obtain ⟨e1, e2, e3⟩ := p172
      refine v_pop (n' := 176) h dX3_entry_175 rfl rfl ?_
      refine KR z169 _ _ _ _ (by omega) (by omega) ((R3.add hz169 ?_ e2 e3).pl (by omega)) pre3
      show eO _ _ _ _ _ = eO _ _ _ _ _
      rw [← hPe, ← hkd2, show 6 + 6 * (xs.length : Int) = P + 1 by omega, show 9 + 6 * (xs.length : Int) = P + 3 + 1 by omega, q4.2]
      rfl
  · skip
    refine vt_callV (ci := 3) h ((t_want de hp r ax el _ a b f hr).d hde) rfl (by first | assumption | exact upH_s | exact (upH_n (by assumption)).trans (by assumption) | exact (upH_n (by assumption)).trans upH_s | exact (upH_n (by assumption)).trans ((upH_n (by assumption)).trans (by assumption))) (lw_V q311 q313 qs2 q88 q314) q314 q88 hdX3_want ⟨by omega, by decide⟩ ⟨by omega, by omega⟩ (Nat.le_of_ble_eq_true rfl) dX3_entry_153 (fun x153 hp153 p153 => ?_) rfl
    exact KT.go (by omega) (by omega) R1 p153.1 p153.2 hpre (by omega) (fun w => by rw [nx_p w] at c150; exact fun w2 => c150 (G3.mp w2))
theorem re_C (h : Ok0 cX3_entry yX3_entry.cls none (rmK 8 (1 + (acC (xs.length + 1) - acC xs.length)) (7 + (acS (xs.length + 1) - acS xs.length))) Γ) (hde : (gD Γ).2.2.1 = de) (hP : PG hp0 ax n g) (hx : xs.length ≤ 7) (hPe : P = 5 + 6 * (xs.length : Int)) (KR : KRt Γ de hp0 r el ax a b f n xs g P) (KT : KTt Γ hp0 n xs g P)
    (kd : Nat) (hp : AH) (hkd : kd < 5) (hkd2 : (kd : Int) = kindBy (g P)) (R1 : RS de hp0 hp r el ax (P + 2) a b f xs g) (hpre : Pre g n (P + 2)) : V Γ 0 0 hp 89 [some (.ref r), some (.int (iI kd)), some (.int (iI (g (P + 1) - 48))), none] [] := by
  obtain ⟨-, -, G2, -, -, -⟩ := good5 (g := g) hPe
  have hz1 := hpre.1
  have hz2 := hpre.2.1
  have hn54 := hP.1.2
  have hr := R1.2.1
  have hP1 := R1.pg hP
  have hg := nx_r (g := g) (n := n) (p := P + 2) hP.2.1
  have hg1 := hP.2.1 (P + 1)
  have hl := R1.2.2.2.1
  have hl2 := hl
  obtain ⟨arr, hl1, -, -⟩ := hl2
  have hE : ∀ (j y : Nat), xs[j]? = some y → ∃ (kd : Nat) (v : Int), kd < 5 ∧ hp y = some (eO kd (KeyAt g (6 + 6 * (j : Int))) v none none) := fun j y hy => by
    have := kindBy_r (g (5 + 6 * (j : Int)))
    exact ⟨_, _, by omega, (R1.2.2.2.2 j y hy).2⟩
  have hk : ∀ j : Nat, j < xs.length → 0 ≤ KeyAt g (6 + 6 * (j : Int)) ∧ KeyAt g (6 + 6 * (j : Int)) ≤ 1000 := fun j hj => by
    have := (EOk_of (g := g) (j := j) (fun k h0 h1 => hpre.2.2 k h0 (by omega))).2.1
    omega
  have eK : P + 2 < n → 10 * (g (P + 1) - 48) + nx g n (P + 2) - 48 = KeyAt g (P + 1) := fun w => by
    unfold KeyAt
    rw [nx_p w, show P + 1 + 1 = P + 2 by omega]
  refine v_aload_n (n' := 90) h dX3_entry_89 rfl rfl ?_
  refine v_aload_n (n' := 91) h dX3_entry_90 rfl rfl ?_
  refine vc_callV (n' := 94) (ci := 3) h ((c_next de hp r ax el _ a b f n g hr hP1 (by omega)).d hde) rfl (by first | assumption | exact upH_s | exact (upH_n (by assumption)).trans (by assumption) | exact (upH_n (by assumption)).trans upH_s | exact (upH_n (by assumption)).trans ((upH_n (by assumption)).trans (by assumption))) (lw_V q306 q308 qs1 q88 q309) hdX3_next ⟨by omega, by decide⟩ ⟨by omega, by omega⟩ (Nat.le_of_ble_eq_true rfl) dX3_entry_91 rfl (eI fun z91 hp91 p91 => ?_) rfl
  obtain ⟨ez91, fz91⟩ := p91
  have ez91 := ez91.symm
  have fz91 := fz91.symm
  subst ez91 fz91
  refine v_bipush (n' := 96) h dX3_entry_94 rfl (by decide) ?_
  refine v_isub (n' := 97) h dX3_entry_96 rfl ?_
  refine v_iconst (n' := 98) h dX3_entry_97 rfl ?_
  refine v_bipush (n' := 100) h dX3_entry_98 rfl (by decide) ?_
  refine vc_callSN (n' := 103) h ((c_in de hp (nx g n (P + 2) - 48) 0 9 (by omega) (by omega) (by omega)).d hde) q257 q82 q310 q256 hdX0_in ⟨by omega, by decide⟩ ⟨by omega, by omega⟩ (Nat.le_of_ble_eq_true rfl) dX3_entry_100 rfl (eI fun z100 hp100 p100 => ?_) rfl
  obtain ⟨ez100, fz100⟩ := p100
  have ez100 := ez100.symm
  have fz100 := fz100.symm
  subst ez100 fz100
  refine v_bif_eq (n' := 106) (tgt := 125) h dX3_entry_103 rfl rfl (fun c103 => ?_) (fun c103 => ?_)
  · refine v_iconst (n' := 126) h dX3_entry_125 rfl ?_
    refine v_goto (tgt := 130) h dX3_entry_126 rfl ?_
    refine vc_callV (n' := 133) (ci := 3) h ((c_want de _ r).d hde) rfl (by first | assumption | exact upH_s | exact (upH_n (by assumption)).trans (by assumption) | exact (upH_n (by assumption)).trans upH_s | exact (upH_n (by assumption)).trans ((upH_n (by assumption)).trans (by assumption))) (lw_V q311 q313 qs2 q88 q314) hdX3_want ⟨by omega, by decide⟩ ⟨by omega, by omega⟩ (Nat.le_of_ble_eq_true rfl) dX3_entry_130 rfl (eV fun hp130 p130 => ?_) rfl
    have p130 := p130.symm
    subst p130
    refine v_bipush (n' := 135) h dX3_entry_133 rfl (by decide) ?_
    refine v_iload_n (n' := 136) h dX3_entry_135 rfl rfl ?_
    refine v_imul (n' := 137) h dX3_entry_136 rfl ?_
    refine v_aload_n (n' := 138) h dX3_entry_137 rfl rfl ?_
    refine v_iconst (n' := 139) h dX3_entry_138 rfl ?_
    refine v_bipush (n' := 141) h dX3_entry_139 rfl (by decide) ?_
    refine v_digit (n' := 144) h hde (p := P + 2) hP1 (by omega) (by first | assumption | exact upH_s | exact (upH_n (by assumption)).trans (by assumption) | exact (upH_n (by assumption)).trans upH_s | exact (upH_n (by assumption)).trans ((upH_n (by assumption)).trans (by assumption))) (lw_V q302 q304 qs0 q88 q305) (by omega) ⟨by omega, by omega⟩ (Nat.le_of_ble_eq_true rfl) dX3_entry_141 rfl (fun c141 x141 hp141 s141 f141 => ?_) (fun c141 => ?_)
    · refine KT.go (by omega) (by omega) R1 s141 f141 hpre (by omega) (fun w w2 => c141 ?_)
      have := (G2.mp w2).1
      rw [nx_p w]
      unfold digit at this
      omega
    · exact absurd c141 c103
  · refine v_aload_n (n' := 107) h dX3_entry_106 rfl rfl ?_
    refine v_bipush (n' := 109) h dX3_entry_107 rfl (by decide) ?_
    refine v_iload_n (n' := 110) h dX3_entry_109 rfl rfl ?_
    refine v_imul (n' := 111) h dX3_entry_110 rfl ?_
    refine v_aload_n (n' := 112) h dX3_entry_111 rfl rfl ?_
    refine vc_callV (n' := 115) (ci := 3) h ((c_next de hp r ax el _ a b f n g hr hP1 (by omega)).d hde) rfl (by first | assumption | exact upH_s | exact (upH_n (by assumption)).trans (by assumption) | exact (upH_n (by assumption)).trans upH_s | exact (upH_n (by assumption)).trans ((upH_n (by assumption)).trans (by assumption))) (lw_V q306 q308 qs1 q88 q309) hdX3_next ⟨by omega, by decide⟩ ⟨by omega, by omega⟩ (Nat.le_of_ble_eq_true rfl) dX3_entry_112 rfl (eI fun z112 hp112 p112 => ?_) rfl
    obtain ⟨ez112, fz112⟩ := p112
    have ez112 := ez112.symm
    have fz112 := fz112.symm
    subst ez112 fz112
    refine v_iadd (n' := 116) h dX3_entry_115 rfl ?_
    refine v_bipush (n' := 118) h dX3_entry_116 rfl (by decide) ?_
    refine v_isub (n' := 119) h dX3_entry_118 rfl ?_
    refine vc_callV (n' := 122) (ci := 3) h ((c_isTold de hp _ r ax el _ a b f xs (fun j => KeyAt g (6 + 6 * (j : Int))) hr hl (by omega) hE hk (10 * (g (P + 1) - 48) + nx g n (P + 2) - 48) (by omega)).d hde) rfl (by first | assumption | exact upH_s | exact (upH_n (by assumption)).trans (by assumption) | exact (upH_n (by assumption)).trans upH_s | exact (upH_n (by assumption)).trans ((upH_n (by assumption)).trans (by assumption))) (lw_V q389 q391 qs6 q88 q392) hdX3_isTold ⟨by omega, by decide⟩ ⟨by omega, by omega⟩ (Nat.le_of_ble_eq_true rfl) dX3_entry_119 rfl (eI fun z119 hp119 p119 => ?_) rfl
    obtain ⟨ez119, fz119⟩ := p119
    have ez119 := ez119.symm
    have fz119 := fz119.symm
    subst ez119 fz119
    refine v_bif_ne (n' := 125) (tgt := 129) h dX3_entry_122 rfl rfl (fun c122 => ?_) (fun c122 => ?_)
    · refine v_iconst (n' := 130) h dX3_entry_129 rfl ?_
      refine vt_callV (ci := 3) h ((t_want de hp r ax el _ a b f hr).d hde) rfl (by first | assumption | exact upH_s | exact (upH_n (by assumption)).trans (by assumption) | exact (upH_n (by assumption)).trans upH_s | exact (upH_n (by assumption)).trans ((upH_n (by assumption)).trans (by assumption))) (lw_V q311 q313 qs2 q88 q314) q314 q88 hdX3_want ⟨by omega, by decide⟩ ⟨by omega, by omega⟩ (Nat.le_of_ble_eq_true rfl) dX3_entry_130 (fun x130 hp130 p130 => ?_) rfl
      have q2 := nx_d c103 (by decide)
      refine KT.go (by omega) (by omega) R1 p130.1 p130.2 hpre (by omega) (fun w w2 => (G2.mp w2).2 ?_)
      rw [eK w] at c122
      exact c122
    · refine v_iconst (n' := 126) h dX3_entry_125 rfl ?_
      refine v_goto (tgt := 130) h dX3_entry_126 rfl ?_
      refine vc_callV (n' := 133) (ci := 3) h ((c_want de _ r).d hde) rfl (by first | assumption | exact upH_s | exact (upH_n (by assumption)).trans (by assumption) | exact (upH_n (by assumption)).trans upH_s | exact (upH_n (by assumption)).trans ((upH_n (by assumption)).trans (by assumption))) (lw_V q311 q313 qs2 q88 q314) hdX3_want ⟨by omega, by decide⟩ ⟨by omega, by omega⟩ (Nat.le_of_ble_eq_true rfl) dX3_entry_130 rfl (eV fun hp130 p130 => ?_) rfl
      have p130 := p130.symm
      subst p130
      refine v_bipush (n' := 135) h dX3_entry_133 rfl (by decide) ?_
      refine v_iload_n (n' := 136) h dX3_entry_135 rfl rfl ?_
      refine v_imul (n' := 137) h dX3_entry_136 rfl ?_
      refine v_aload_n (n' := 138) h dX3_entry_137 rfl rfl ?_
      refine v_iconst (n' := 139) h dX3_entry_138 rfl ?_
      refine v_bipush (n' := 141) h dX3_entry_139 rfl (by decide) ?_
      refine v_digit (n' := 144) h hde (p := P + 2) hP1 (by omega) (by first | assumption | exact upH_s | exact (upH_n (by assumption)).trans (by assumption) | exact (upH_n (by assumption)).trans upH_s | exact (upH_n (by assumption)).trans ((upH_n (by assumption)).trans (by assumption))) (lw_V q302 q304 qs0 q88 q305) (by omega) ⟨by omega, by omega⟩ (Nat.le_of_ble_eq_true rfl) dX3_entry_141 rfl (fun c141 x141 hp141 s141 f141 => ?_) (fun c141 => ?_)
      · exact absurd c103 c141
      · refine v_iadd (n' := 145) h dX3_entry_144 rfl ?_
        refine v_istore3 (n' := 146) h dX3_entry_145 rfl rfl ?_
        have q2 := nx_d c103 (by decide)
        have R2 := (R1.set (P + 2 + 1) a b f).pl (p' := P + 3) (by omega)
        rw [show 10 * (g (P + 1) - 48) + (nx g n (P + 2) - 48) = KeyAt g (P + 1) by rw [← eK q2.1]; omega]
        refine re_D h hde hP hx hPe KR KT kd _ _ hkd hkd2 R2 (hpre.next q2.1 (G2.mpr ⟨?_, ?_⟩) (by omega))
        · rw [q2.2] at c103
          unfold digit
          omega
        · intro w
          rw [eK q2.1] at c122
          exact c122 w
theorem re_B (h : Ok0 cX3_entry yX3_entry.cls none (rmK 8 (1 + (acC (xs.length + 1) - acC xs.length)) (7 + (acS (xs.length + 1) - acS xs.length))) Γ) (hde : (gD Γ).2.2.1 = de) (hP : PG hp0 ax n g) (hx : xs.length ≤ 7) (hPe : P = 5 + 6 * (xs.length : Int)) (KR : KRt Γ de hp0 r el ax a b f n xs g P) (KT : KTt Γ hp0 n xs g P)
    (kd : Nat) (hp : AH) (hkd : kd < 5) (hkd2 : (kd : Int) = kindBy (g P)) (R1 : RS de hp0 hp r el ax (P + 1) a b f xs g) (hpre : Pre g n (P + 1)) : V Γ 0 0 hp 66 [some (.ref r), none, none, none] [.int (iI kd)] := by
  obtain ⟨-, G1, -, -, -, -⟩ := good5 (g := g) hPe
  have hz1 := hpre.1
  have hz2 := hpre.2.1
  have hn54 := hP.1.2
  have hr := R1.2.1
  have hP1 := R1.pg hP
  refine v_istore1 (n' := 67) h dX3_entry_66 rfl rfl ?_
  refine v_aload_n (n' := 68) h dX3_entry_67 rfl rfl ?_
  refine v_iload_n (n' := 69) h dX3_entry_68 rfl rfl ?_
  refine v_iconst (n' := 70) h dX3_entry_69 rfl ?_
  refine v_icmp_eq (n' := 73) (tgt := 77) h dX3_entry_70 rfl rfl (by omega) (by omega) (fun c70 => ?_) (fun c70 => ?_)
  · omega
  · refine v_iconst (n' := 74) h dX3_entry_73 rfl ?_
    refine v_goto (tgt := 78) h dX3_entry_74 rfl ?_
    refine vc_callV (n' := 81) (ci := 3) h ((c_want de _ r).d hde) rfl (by first | assumption | exact upH_s | exact (upH_n (by assumption)).trans (by assumption) | exact (upH_n (by assumption)).trans upH_s | exact (upH_n (by assumption)).trans ((upH_n (by assumption)).trans (by assumption))) (lw_V q311 q313 qs2 q88 q314) hdX3_want ⟨by omega, by decide⟩ ⟨by omega, by omega⟩ (Nat.le_of_ble_eq_true rfl) dX3_entry_78 rfl (eV fun hp78 p78 => ?_) rfl
    have p78 := p78.symm
    subst p78
    refine v_aload_n (n' := 82) h dX3_entry_81 rfl rfl ?_
    refine v_iconst (n' := 83) h dX3_entry_82 rfl ?_
    refine v_bipush (n' := 85) h dX3_entry_83 rfl (by decide) ?_
    refine v_digit (n' := 88) h hde (p := P + 1) hP1 (by omega) (by first | assumption | exact upH_s | exact (upH_n (by assumption)).trans (by assumption) | exact (upH_n (by assumption)).trans upH_s | exact (upH_n (by assumption)).trans ((upH_n (by assumption)).trans (by assumption))) (lw_V q302 q304 qs0 q88 q305) (by omega) ⟨by omega, by omega⟩ (Nat.le_of_ble_eq_true rfl) dX3_entry_85 rfl (fun c85 x85 hp85 s85 f85 => ?_) (fun c85 => ?_)
    · refine KT.go (by omega) (by omega) R1 s85 f85 hpre (by omega) (fun w w2 => c85 ?_)
      have := G1.mp w2
      rw [nx_p w]
      unfold digit at this
      omega
    · refine v_istore2 (n' := 89) h dX3_entry_88 rfl rfl ?_
      have q1 := nx_d c85 (by decide)
      have R2 := (R1.set (P + 1 + 1) a b f).pl (p' := P + 2) (by omega)
      rw [q1.2]
      refine re_C h hde hP hx hPe KR KT kd _ hkd hkd2 R2 (hpre.next q1.1 (G1.mpr ?_) (by omega))
      rw [q1.2] at c85
      unfold digit
      omega
theorem re_A (h : Ok0 cX3_entry yX3_entry.cls none (rmK 8 (1 + (acC (xs.length + 1) - acC xs.length)) (7 + (acS (xs.length + 1) - acS xs.length))) Γ) (hde : (gD Γ).2.2.1 = de) (hP : PG hp0 ax n g) (hx : xs.length ≤ 7) (hPe : P = 5 + 6 * (xs.length : Int)) (KR : KRt Γ de hp0 r el ax a b f n xs g P) (KT : KTt Γ hp0 n xs g P)
    (hp : AH) (R1 : RS de hp0 hp r el ax P a b f xs g) (hpre : Pre g n P) : V Γ 0 0 hp 0 [some (.ref r), none, none, none] [] := by
  obtain ⟨G0, -, -, -, -, -⟩ := good5 (g := g) hPe
  have hz1 := hpre.1
  have hz2 := hpre.2.1
  have hn54 := hP.1.2
  have hr := R1.2.1
  have hP1 := R1.pg hP
  have good : ∀ (kd : Nat) (y : Int), nx g n P = y → y ≠ 0 → kd < 5 → kindBy y = kd → V Γ 0 0 (upH hp r (rO (P + 1) a b f el ax)) 66 [some (.ref r), none, none, none] [.int (iI kd)] := by
    intro kd y e1 e2 e3 e4
    have q := nx_e e1 e2
    refine re_B h hde hP hx hPe KR KT kd _ e3 (by rw [q.2, e4]) (R1.set (P + 1) a b f) (hpre.next q.1 (G0.mpr ?_) rfl)
    rw [q.2, e4]
    omega
  refine v_aload_n (n' := 1) h dX3_entry_0 rfl rfl ?_
  refine v_bipush (n' := 3) h dX3_entry_1 rfl (by decide) ?_
  refine v_takes (n' := 6) h hde (p := P) hP1 (by omega) (by first | assumption | exact upH_s | exact (upH_n (by assumption)).trans (by assumption) | exact (upH_n (by assumption)).trans upH_s | exact (upH_n (by assumption)).trans ((upH_n (by assumption)).trans (by assumption))) (lw_V q381 q383 qs4 q88 q384) (by omega) ⟨by omega, by omega⟩ (Nat.le_of_ble_eq_true rfl) dX3_entry_3 rfl (fun c3 => ?_) (fun c3 => ?_)
  · refine v_if_eq (n' := 9) (tgt := 13) h dX3_entry_6 rfl rfl (by omega) (fun c6 => ?_) (fun c6 => ?_)
    · exact absurd c6 (by decide)
    · refine v_iconst (n' := 10) h dX3_entry_9 rfl ?_
      refine v_goto (tgt := 66) h dX3_entry_10 rfl ?_
      exact good 0 110 c3 (by decide) (by decide) rfl
  · refine v_if_eq (n' := 9) (tgt := 13) h dX3_entry_6 rfl rfl (by omega) (fun c6 => ?_) (fun c6 => ?_)
    · refine v_aload_n (n' := 14) h dX3_entry_13 rfl rfl ?_
      refine v_bipush (n' := 16) h dX3_entry_14 rfl (by decide) ?_
      refine v_takes (n' := 19) h hde (p := P) hP1 (by omega) (by first | assumption | exact upH_s | exact (upH_n (by assumption)).trans (by assumption) | exact (upH_n (by assumption)).trans upH_s | exact (upH_n (by assumption)).trans ((upH_n (by assumption)).trans (by assumption))) (lw_V q381 q383 qs4 q88 q384) (by omega) ⟨by omega, by omega⟩ (Nat.le_of_ble_eq_true rfl) dX3_entry_16 rfl (fun c16 => ?_) (fun c16 => ?_)
      · refine v_if_eq (n' := 22) (tgt := 26) h dX3_entry_19 rfl rfl (by omega) (fun c19 => ?_) (fun c19 => ?_)
        · exact absurd c19 (by decide)
        · refine v_iconst (n' := 23) h dX3_entry_22 rfl ?_
          refine v_goto (tgt := 66) h dX3_entry_23 rfl ?_
          exact good 1 108 c16 (by decide) (by decide) rfl
      · refine v_if_eq (n' := 22) (tgt := 26) h dX3_entry_19 rfl rfl (by omega) (fun c19 => ?_) (fun c19 => ?_)
        · refine v_aload_n (n' := 27) h dX3_entry_26 rfl rfl ?_
          refine v_bipush (n' := 29) h dX3_entry_27 rfl (by decide) ?_
          refine v_takes (n' := 32) h hde (p := P) hP1 (by omega) (by first | assumption | exact upH_s | exact (upH_n (by assumption)).trans (by assumption) | exact (upH_n (by assumption)).trans upH_s | exact (upH_n (by assumption)).trans ((upH_n (by assumption)).trans (by assumption))) (lw_V q381 q383 qs4 q88 q384) (by omega) ⟨by omega, by omega⟩ (Nat.le_of_ble_eq_true rfl) dX3_entry_29 rfl (fun c29 => ?_) (fun c29 => ?_)
          · refine v_if_eq (n' := 35) (tgt := 39) h dX3_entry_32 rfl rfl (by omega) (fun c32 => ?_) (fun c32 => ?_)
            · exact absurd c32 (by decide)
            · refine v_iconst (n' := 36) h dX3_entry_35 rfl ?_
              refine v_goto (tgt := 66) h dX3_entry_36 rfl ?_
              exact good 2 99 c29 (by decide) (by decide) rfl
          · refine v_if_eq (n' := 35) (tgt := 39) h dX3_entry_32 rfl rfl (by omega) (fun c32 => ?_) (fun c32 => ?_)
            · refine v_aload_n (n' := 40) h dX3_entry_39 rfl rfl ?_
              refine v_bipush (n' := 42) h dX3_entry_40 rfl (by decide) ?_
              refine v_takes (n' := 45) h hde (p := P) hP1 (by omega) (by first | assumption | exact upH_s | exact (upH_n (by assumption)).trans (by assumption) | exact (upH_n (by assumption)).trans upH_s | exact (upH_n (by assumption)).trans ((upH_n (by assumption)).trans (by assumption))) (lw_V q381 q383 qs4 q88 q384) (by omega) ⟨by omega, by omega⟩ (Nat.le_of_ble_eq_true rfl) dX3_entry_42 rfl (fun c42 => ?_) (fun c42 => ?_)
              · refine v_if_eq (n' := 48) (tgt := 52) h dX3_entry_45 rfl rfl (by omega) (fun c45 => ?_) (fun c45 => ?_)
                · exact absurd c45 (by decide)
                · refine v_iconst (n' := 49) h dX3_entry_48 rfl ?_
                  refine v_goto (tgt := 66) h dX3_entry_49 rfl ?_
                  exact good 3 102 c42 (by decide) (by decide) rfl
              · refine v_if_eq (n' := 48) (tgt := 52) h dX3_entry_45 rfl rfl (by omega) (fun c45 => ?_) (fun c45 => ?_)
                · refine v_aload_n (n' := 53) h dX3_entry_52 rfl rfl ?_
                  refine v_bipush (n' := 55) h dX3_entry_53 rfl (by decide) ?_
                  refine v_takes (n' := 58) h hde (p := P) hP1 (by omega) (by first | assumption | exact upH_s | exact (upH_n (by assumption)).trans (by assumption) | exact (upH_n (by assumption)).trans upH_s | exact (upH_n (by assumption)).trans ((upH_n (by assumption)).trans (by assumption))) (lw_V q381 q383 qs4 q88 q384) (by omega) ⟨by omega, by omega⟩ (Nat.le_of_ble_eq_true rfl) dX3_entry_55 rfl (fun c55 => ?_) (fun c55 => ?_)
                  · refine v_if_eq (n' := 61) (tgt := 65) h dX3_entry_58 rfl rfl (by omega) (fun c58 => ?_) (fun c58 => ?_)
                    · exact absurd c58 (by decide)
                    · refine v_iconst (n' := 62) h dX3_entry_61 rfl ?_
                      refine v_goto (tgt := 66) h dX3_entry_62 rfl ?_
                      exact good 4 115 c55 (by decide) (by decide) rfl
                  · refine v_if_eq (n' := 61) (tgt := 65) h dX3_entry_58 rfl rfl (by omega) (fun c58 => ?_) (fun c58 => ?_)
                    · refine v_iconst (n' := 66) h dX3_entry_65 rfl ?_
                      refine v_istore1 (n' := 67) h dX3_entry_66 rfl rfl ?_
                      refine v_aload_n (n' := 68) h dX3_entry_67 rfl rfl ?_
                      refine v_iload_n (n' := 69) h dX3_entry_68 rfl rfl ?_
                      refine v_iconst (n' := 70) h dX3_entry_69 rfl ?_
                      refine v_icmp_eq (n' := 73) (tgt := 77) h dX3_entry_70 rfl rfl (by omega) (by omega) (fun c70 => ?_) (fun c70 => ?_)
                      · refine v_iconst (n' := 78) h dX3_entry_77 rfl ?_
                        refine vt_callV (ci := 3) h ((t_want de hp r ax el _ a b f hr).d hde) rfl (by first | assumption | exact upH_s | exact (upH_n (by assumption)).trans (by assumption) | exact (upH_n (by assumption)).trans upH_s | exact (upH_n (by assumption)).trans ((upH_n (by assumption)).trans (by assumption))) (lw_V q311 q313 qs2 q88 q314) q314 q88 hdX3_want ⟨by omega, by decide⟩ ⟨by omega, by omega⟩ (Nat.le_of_ble_eq_true rfl) dX3_entry_78 (fun x78 hp78 p78 => ?_) rfl
                        refine KT.go (by omega) (by omega) R1 p78.1 p78.2 hpre (by omega) (fun w w2 => G0.mp w2 ?_)
                        rw [nx_p w] at c3 c16 c29 c42 c55
                        unfold kindBy
                        rw [if_neg c3, if_neg c16, if_neg c29, if_neg c42, if_neg c55]
                      · exact absurd rfl c70
                    · exact absurd c58 (by decide)
                · exact absurd c45 (by decide)
            · exact absurd c32 (by decide)
        · exact absurd c19 (by decide)
    · exact absurd c6 (by decide)
end RE
theorem c_rentry (de : Nat) (hp0 hp : AH) (r el ax : Nat) (a b f n : Int) (xs : List Nat) (g : Int → Int) (P : Int) (hP : PG hp0 ax n g) (hx : xs.length ≤ 7) (hPe : P = 5 + 6 * (xs.length : Int)) (R1 : RS de hp0 hp r el ax P a b f xs g) (hpre : Pre g n (P + 5)) : CtE de yX3_entry cX3_entry 4 none (rmK 8 (1 + (acC (xs.length + 1) - acC xs.length)) (7 + (acS (xs.length + 1) - acS xs.length))) [.ref r] hp (rV (fun hp' => ∃ y, RS de hp0 hp' r el ax (P + 5) a b f (xs ++ [y]) g)) := by
  refine CtE.of (by decide) (EL.c1 rfl (EL.nn (EL.nn (EL.nn EL.n0)))) (fun Γ h hq hnm hde => ?_)
  refine re_A h hde hP hx hPe ?_ ?_ hp R1 ⟨by omega, by have := hpre.2.1; omega, fun j h0 h1 => hpre.2.2 j h0 (by omega)⟩
  · intro y k m hp' L hk hm q1 q2
    refine v_vret h hq dX3_entry_176 (by omega) (by omega) (ret_v ?_)
    exact ⟨y, q1⟩
  · intro pc L st z x hp' h1 h2 h3 h4
    exact absurd (hpre.2.2 z h1.1 h2) (h1.2.2.2 (by have := hpre.2.1; omega))
theorem t_rentry (de : Nat) (hp0 hp : AH) (r el ax : Nat) (a b f n : Int) (xs : List Nat) (g : Int → Int) (P : Int) (hP : PG hp0 ax n g) (hx : xs.length ≤ 7) (hPe : P = 5 + 6 * (xs.length : Int)) (R1 : RS de hp0 hp r el ax P a b f xs g) (hpre : Pre g n P) (hno : ¬ Pre g n (P + 5)) : CtT de yX3_entry cX3_entry 4 none (rmK 8 (1 + (acC (xs.length + 1) - acC xs.length)) (7 + (acS (xs.length + 1) - acS xs.length))) [.ref r] hp (fun x hp' => ∃ z, Flt g n z ∧ z < P + 5 ∧ StpO hp' x z ∧ Frm (Fsh hp0) hp0 hp') := by
  refine CtT.of (by decide) (EL.c1 rfl (EL.nn (EL.nn (EL.nn EL.n0)))) (fun Γ h hq hnm hde hxt => ?_)
  refine re_A h hde hP hx hPe ?_ ?_ hp R1 hpre
  · intro y k m hp' L hk hm q1 q2
    exact absurd q2 hno
  · intro pc L st z x hp' h1 h2 h3 h4
    exact VT.out h hq hxt rfl rfl ⟨z, h1, h2, h3, h4⟩
