/-! THE READER: its making and the whole page -/
set_option maxRecDepth 100000
theorem c_rinit (de : Nat) (hp : AH) (r ax : Nat) (he : hp r = some (.inr (3, dvX3))) : CtE de yX3_init cX3_init 2 none (rmK 5 1 10) [.ref r, .ref ax] hp (rV (fun hp' => ∃ el, hp el = none ∧ hp' = upH (upH hp el (lO 0 0 de)) r (rO 0 0 0 0 el ax))) := by
  refine CtE.of (by decide) (EL.c1 rfl (EL.c1 rfl EL.n0)) (fun Γ h hq hnm hde => ?_)
  refine v_aload_n (n' := 1) h dX3_init_0 rfl rfl ?_
  refine v_aload_n (n' := 2) h dX3_init_1 rfl rfl ?_
  refine v_putF (n' := 5) (ci := 3) h rfl in_X3 tyX3 tyX3_ok nmX3 5 (by decide) q284 rfl rfl (hnm.trans rfl) rfl dX3_init_2 rfl (by first | assumption | exact upH_s | exact (upH_n (by assumption)).trans (by assumption) | exact (upH_n (by assumption)).trans upH_s | exact (upH_n (by assumption)).trans ((upH_n (by assumption)).trans (by assumption))) (by show 5 < 6; decide) rfl rfl ?_
  refine v_aload_n (n' := 6) h dX3_init_5 rfl rfl ?_
  refine v_objInit (n' := 9) h q272 q110 q111 dX3_init_6 rfl (rm1 (by omega)) (Nat.le_of_ble_eq_true rfl) ?_
  refine v_aload_n (n' := 10) h dX3_init_9 rfl rfl ?_
  refine v_new (n' := 13) (ci := 10) h rfl in_J2 tyJ2 tyJ2_ok q273 q160 q86 (fs := dvJ2) dvJ2_ok dX3_init_10 rfl (rmC (by omega)) (rmS (by omega)) (fun a10 n10 => ?_)
  have ner : r ≠ a10 := fun z => by rw [← z, upH_s] at n10; cases n10
  refine v_dup (n' := 14) h dX3_init_13 rfl rfl ?_
  refine vc_callI (n' := 17) h ((c_linit de _ a10 upH_s).d hde) q163 q86 q274 q162 rfl hdJ2_init ⟨by omega, by decide⟩ ⟨by omega, by omega⟩ (Nat.le_of_ble_eq_true rfl) dX3_init_14 rfl (eV fun hp14 p14 => ?_) rfl
  have p14 := p14.symm
  subst p14
  rw [upH_up]
  refine v_putF (n' := 20) (ci := 3) h rfl in_X3 tyX3 tyX3_ok nmX3 4 (by decide) q282 rfl rfl (hnm.trans rfl) rfl dX3_init_17 rfl (by first | assumption | exact upH_s | exact (upH_n (by assumption)).trans (by assumption) | exact (upH_n (by assumption)).trans upH_s | exact (upH_n (by assumption)).trans ((upH_n (by assumption)).trans (by assumption))) (by show 4 < 6; decide) rfl rfl ?_
  refine v_vret h hq dX3_init_20 (by omega) (by omega) (ret_v ?_)
  refine ⟨a10, by rw [upH_n ner.symm] at n10; exact n10, ?_⟩
  funext q
  by_cases c : q = r
  · rw [c, upH_s, upH_s]; rfl
  · rw [upH_n c, upH_n c]
    by_cases c2 : q = a10
    · rw [c2, upH_s, upH_s]
    · rw [upH_n c2, upH_n c2, upH_n c]
theorem RS.init {de : Nat} {hp0 : AH} {r el ax : Nat} {e0 : va_E} {g : Int → Int} (hr : hp0 r = none) (hel : upH hp0 r e0 el = none) : RS de hp0 (upH (upH (upH hp0 r e0) el (lO 0 0 de)) r (rO 0 0 0 0 el ax)) r el ax 0 0 0 0 [] g := by
  have ne : el ≠ r := fun z => by rw [z, upH_s] at hel; cases hel
  have hel0 : hp0 el = none := by rw [upH_n ne] at hel; exact hel
  refine ⟨((Frm.up hr).tr (Frm.up hel0)).tr (Frm.up hr), upH_s, hr, ⟨de, ?_, ⟨hel0, ne, List.not_mem_nil⟩, Or.inl ⟨rfl, rfl⟩⟩, fun j y hy => ?_⟩
  · rw [upH_n ne, upH_s]; rfl
  · rw [List.getElem?_nil] at hy; cases hy
section VE
variable {Γ : GX} {k m : Nat} {hp : AH} {pc n' : Nat} {L : List (Option Value)} {st : List Value} {cc : ByteArray} {own : String} {ret : Option FieldType} {l' c' s' : Nat} {de r ax el i : Nat} {P a b f n : Int} {g : Int → Int} {hp0 : AH} {xs : List Nat}
theorem v_rentry (h : Ok0 cc own ret (rmK l' c' s') Γ) (hde : (gD Γ).2.2.1 = de) (hP : PG hp0 ax n g) (hx : xs.length ≤ 7) (hPe : P = 5 + 6 * (xs.length : Int)) (R1 : RS de hp0 hp r el ax P a b f xs g) (hpre : Pre g n P) (hr : hp r = some (rO P a b f el ax)) (hw : GoodIn lw_all (wsV own i yX3_entry.cls yX3_entry (ws_ yX3_entry cX3_entry 4 none))) (hR : 9 ≤ l') (hf : k + (1 + (acC (xs.length + 1) - acC xs.length)) ≤ c' ∧ m + (7 + (acS (xs.length + 1) - acS xs.length)) ≤ s') (hst : (st.map fun v => v.category).sum ≤ 8) (d : decode cc pc = .ok (.invokevirtual i, 3)) (hn : pc + 3 = n')
    (kf : ∀ z x hp', (Flt g n z ∧ StpO hp' x z ∧ z < P + 5) → Frm (Fsh hp0) hp0 hp' → VT Γ (k + (1 + (acC (xs.length + 1) - acC xs.length))) (m + (7 + (acS (xs.length + 1) - acS xs.length))) hp' pc L st x)
    (kt : ∀ c : {w : Nat × AH // RS de hp0 w.2 r el ax (P + 5) a b f (xs ++ [w.1]) g ∧ Pre g n (P + 5)}, V Γ (k + (1 + (acC (xs.length + 1) - acC xs.length))) (m + (7 + (acS (xs.length + 1) - acS xs.length))) c.1.2 n' L st) : V Γ k m hp pc L (.ref r :: st) := by
  by_cases c : Pre g n (P + 5)
  · exact vc_callV (ci := 3) h ((c_rentry de hp0 hp r el ax a b f n xs g P hP hx hPe R1 c).d hde) rfl hr hw hdX3_entry ⟨by omega, by decide⟩ hf hst d hn (eV fun hp' e => by
      obtain ⟨y, e⟩ := e
      exact kt ⟨(y, hp'), e, c⟩) rfl
  · exact vt_callV (ci := 3) h ((t_rentry de hp0 hp r el ax a b f n xs g P hP hx hPe R1 hpre c).d hde) rfl hr hw (hw _ (by unfold wsV; simp)).1 q88 hdX3_entry ⟨by omega, by decide⟩ hf hst d (fun x hp' e => by
      obtain ⟨z, e1, e2, e3, e4⟩ := e
      exact kf z x hp' ⟨e1, e3, e2⟩ e4) rfl
end VE
theorem PageOk_of {g : Int → Int} {n : Int} {q : Nat} (h : Pre g n n) (hq : (q = 0 ∧ n = 5) ∨ (1 ≤ q ∧ n = 4 + 6 * (q : Int))) : PageOk g n ∧ q = ((n - 4) / 6).toNat := by
  refine ⟨⟨by omega, h.flt (fun w => absurd w (by omega)), by omega⟩, by omega⟩
theorem PageNo {g : Int → Int} {n z : Int} (h : Flt g n z) (hn : z = n → n < 5 ∨ (n ≠ 5 ∧ (n - 5) % 6 ≠ 5)) : ¬ PageOk g n := fun hk => by
  have e := Flt_uniq h hk.2.1
  have := hn e
  have := hk.1
  have := hk.2.2
  omega
section SB
variable {Γ : GX} {de : Nat} {hp0 : AH} {r el ax : Nat} {n : Int} {g : Int → Int}
def KSt (Γ : GX) (hp0 : AH) (n : Int) (g : Int → Int) : Prop := ∀ pc L st z x hp', Flt g n z → ¬ PageOk g n → StpO hp' x z → Frm (Fsh hp0) hp0 hp' → VT Γ 10 80 hp' pc L st x
def KSr (Γ : GX) (de : Nat) (hp0 : AH) (r el ax : Nat) (n : Int) (g : Int → Int) : Prop := ∀ hp' xs L, PageOk g n → xs.length = ((n - 4) / 6).toNat → RS de hp0 hp' r el ax n (g 0 - 48) (g 1 - 48) (g 3 - 48) xs g → V Γ 10 80 hp' 137 L [.ref r]
theorem KSt.go (h : KSt Γ hp0 n g) {k m pc : Nat} {a b f : Int} {xs : List Nat} {L : List (Option Value)} {st : List Value} {z : Int} {x : Nat} {hp hp' : AH} (hk : k ≤ 10) (hm : m ≤ 80) (R : RS de hp0 hp r el ax z a b f xs g) (hs : StpO hp' x z) (F : Frm (Fsh hp) hp hp') (hp1 : Pre g n z) (hn : z = n → n < 5 ∨ (n ≠ 5 ∧ (n - 5) % 6 ≠ 5)) (hb : z < n → ¬ Good g z) : VT Γ k m hp' pc L st x :=
  VT.widen hk hm (h pc L st z x hp' (hp1.flt hb) (PageNo (hp1.flt hb) hn) hs (R.stop F))
theorem ac_up {j : Nat} (h : j ≤ 7) : acC j ≤ acC (j + 1) ∧ acS j ≤ acS (j + 1) ∧ acC (j + 1) ≤ 1 ∧ acS (j + 1) ≤ 10 := by
  have : j = 0 ∨ j = 1 ∨ j = 2 ∨ j = 3 ∨ j = 4 ∨ j = 5 ∨ j = 6 ∨ j = 7 := by omega
  rcases this with rfl | rfl | rfl | rfl | rfl | rfl | rfl | rfl <;> decide
theorem rs_loop (h : Ok0 cX3_shelf yX3_shelf.cls (some (.object "CreditShelf$Reader")) (rmK 9 10 80) Γ) (hde : (gD Γ).2.2.1 = de) (hP : PG hp0 ax n g) (KR : KSr Γ de hp0 r el ax n g) (KT : KSt Γ hp0 n g) :
    ∀ (m j : Nat), j + m = 8 → ∀ (k s : Nat) (hp : AH) (xs : List Nat) (Q : Int), xs.length = j → k ≤ j + acC j → s ≤ 7 * j + acS j → (j = 0 ∧ Q = 5 ∧ n = 5) ∨ (1 ≤ j ∧ Q = 4 + 6 * (j : Int)) → RS de hp0 hp r el ax Q (g 0 - 48) (g 1 - 48) (g 3 - 48) xs g → Pre g n Q → V Γ k s hp 85 [some (.ref r)] [] := by
  have hn54 := hP.1.2
  intro m
  induction m with
  | zero =>
    intro j hj k s hp xs Q hxl hk hs hQ R1 hpre
    obtain rfl : j = 8 := by omega
    have hr := R1.2.1
    have hP1 := R1.pg hP
    obtain ⟨-, -, A, t, kt, σ, h3, h4, h5, h6⟩ := hP1
    have hz := hpre.2.1
    have ac : acC 8 = 1 ∧ acS 8 = 10 := by decide
    obtain ⟨arr, hl1, -, -⟩ := R1.2.2.2.1
    obtain ⟨-, -, -, -, -, G5⟩ := good5 (g := g) (q := 7) (P := 47) (by omega)
    refine v_aload_n (n' := 86) h dX3_shelf_85 rfl rfl ?_
    refine v_get (n' := 89) (ci := 3) h rfl in_X3 0 (by decide) q275 rfl dX3_shelf_86 rfl (by first | assumption | exact upH_s | exact (upH_n (by assumption)).trans (by assumption) | exact (upH_n (by assumption)).trans upH_s | exact (upH_n (by assumption)).trans ((upH_n (by assumption)).trans (by assumption))) (by rfl) ?_
    refine v_aload_n (n' := 90) h dX3_shelf_89 rfl rfl ?_
    refine v_get (n' := 93) (ci := 3) h rfl in_X3 5 (by decide) q284 rfl dX3_shelf_90 rfl (by first | assumption | exact upH_s | exact (upH_n (by assumption)).trans (by assumption) | exact (upH_n (by assumption)).trans upH_s | exact (upH_n (by assumption)).trans ((upH_n (by assumption)).trans (by assumption))) (by rfl) ?_
    refine v_getN (n' := 96) (ci := 0) h rfl in_X0 3 (by decide) q192 rfl dX3_shelf_93 rfl (by first | assumption | exact upH_s | exact (upH_n (by assumption)).trans (by assumption) | exact (upH_n (by assumption)).trans upH_s | exact (upH_n (by assumption)).trans ((upH_n (by assumption)).trans (by assumption))) (by rfl) ?_
    refine v_icmp_ge (n' := 99) (tgt := 136) h dX3_shelf_96 rfl rfl (by omega) (by omega) (fun c96 => ?_) (fun c96 => ?_)
    · refine v_aload_n (n' := 137) h dX3_shelf_136 rfl rfl ?_
      have e : Q = n := by omega
      subst e
      have q := PageOk_of (q := 8) hpre (by omega)
      exact V.widen (by omega) (by omega) (KR hp xs _ q.1 (by rw [hxl, q.2]) R1)
    · refine v_aload_n (n' := 100) h dX3_shelf_99 rfl rfl ?_
      refine v_aload_n (n' := 101) h dX3_shelf_100 rfl rfl ?_
      refine v_get (n' := 104) (ci := 3) h rfl in_X3 4 (by decide) q282 rfl dX3_shelf_101 rfl (by first | assumption | exact upH_s | exact (upH_n (by assumption)).trans (by assumption) | exact (upH_n (by assumption)).trans upH_s | exact (upH_n (by assumption)).trans ((upH_n (by assumption)).trans (by assumption))) (by rfl) ?_
      refine vc_callV (n' := 107) (ci := 10) h ((c_size de hp el _ _ arr hl1).d hde) rfl (by first | assumption | exact upH_s | exact (upH_n (by assumption)).trans (by assumption) | exact (upH_n (by assumption)).trans upH_s | exact (upH_n (by assumption)).trans ((upH_n (by assumption)).trans (by assumption))) (lw_V q393 q394 q395 q86 q396) hdJ2_size ⟨by omega, by decide⟩ ⟨by omega, by omega⟩ (Nat.le_of_ble_eq_true rfl) dX3_shelf_104 rfl (eI fun z104 hp104 p104 => ?_) rfl
      obtain ⟨ez104, fz104⟩ := p104
      have ez104 := ez104.symm
      have fz104 := fz104.symm
      subst ez104 fz104
      refine v_bipush (n' := 109) h dX3_shelf_107 rfl (by decide) ?_
      refine v_icmp_ge (n' := 112) (tgt := 125) h dX3_shelf_109 rfl rfl (by omega) (by omega) (fun c109 => ?_) (fun c109 => ?_)
      · refine v_iconst (n' := 126) h dX3_shelf_125 rfl ?_
        refine vt_callV (ci := 3) h ((t_want de hp r ax el _ _ _ _ hr).d hde) rfl (by first | assumption | exact upH_s | exact (upH_n (by assumption)).trans (by assumption) | exact (upH_n (by assumption)).trans upH_s | exact (upH_n (by assumption)).trans ((upH_n (by assumption)).trans (by assumption))) (lw_V q311 q313 qs2 q88 q314) q314 q88 hdX3_want ⟨by omega, by decide⟩ ⟨by omega, by omega⟩ (Nat.le_of_ble_eq_true rfl) dX3_shelf_126 (fun x126 hp126 p126 => ?_) rfl
        refine KT.go (by omega) (by omega) R1 p126.1 p126.2 hpre (by omega) (fun w w2 => ?_)
        rw [show Q = 47 + 5 by omega] at w2
        have := (G5.mp w2).2
        omega
      · omega
  | succ m ih =>
    intro j hj k s hp xs Q hxl hk hs hQ R1 hpre
    subst hxl
    have hr := R1.2.1
    have hP1 := R1.pg hP
    have hP2 := hP1
    obtain ⟨-, -, A, t, kt, σ, h3, h4, h5, h6⟩ := hP2
    have hz := hpre.2.1
    have ac := ac_up (j := xs.length) (by omega)
    obtain ⟨arr, hl1, -, -⟩ := R1.2.2.2.1
    refine v_aload_n (n' := 86) h dX3_shelf_85 rfl rfl ?_
    refine v_get (n' := 89) (ci := 3) h rfl in_X3 0 (by decide) q275 rfl dX3_shelf_86 rfl (by first | assumption | exact upH_s | exact (upH_n (by assumption)).trans (by assumption) | exact (upH_n (by assumption)).trans upH_s | exact (upH_n (by assumption)).trans ((upH_n (by assumption)).trans (by assumption))) (by rfl) ?_
    refine v_aload_n (n' := 90) h dX3_shelf_89 rfl rfl ?_
    refine v_get (n' := 93) (ci := 3) h rfl in_X3 5 (by decide) q284 rfl dX3_shelf_90 rfl (by first | assumption | exact upH_s | exact (upH_n (by assumption)).trans (by assumption) | exact (upH_n (by assumption)).trans upH_s | exact (upH_n (by assumption)).trans ((upH_n (by assumption)).trans (by assumption))) (by rfl) ?_
    refine v_getN (n' := 96) (ci := 0) h rfl in_X0 3 (by decide) q192 rfl dX3_shelf_93 rfl (by first | assumption | exact upH_s | exact (upH_n (by assumption)).trans (by assumption) | exact (upH_n (by assumption)).trans upH_s | exact (upH_n (by assumption)).trans ((upH_n (by assumption)).trans (by assumption))) (by rfl) ?_
    refine v_icmp_ge (n' := 99) (tgt := 136) h dX3_shelf_96 rfl rfl (by omega) (by omega) (fun c96 => ?_) (fun c96 => ?_)
    · refine v_aload_n (n' := 137) h dX3_shelf_136 rfl rfl ?_
      have e : Q = n := by omega
      subst e
      have q := PageOk_of (q := xs.length) hpre (by omega)
      exact V.widen (by omega) (by omega) (KR hp xs _ q.1 q.2 R1)
    · have j1 : 1 ≤ xs.length ∧ Q = 4 + 6 * (xs.length : Int) := by omega
      obtain ⟨-, -, -, -, -, G5⟩ := good5 (g := g) (q := xs.length - 1) (P := Q - 5) (by omega)
      rw [show Q - 5 + 5 = Q by omega] at G5
      refine v_aload_n (n' := 100) h dX3_shelf_99 rfl rfl ?_
      refine v_aload_n (n' := 101) h dX3_shelf_100 rfl rfl ?_
      refine v_get (n' := 104) (ci := 3) h rfl in_X3 4 (by decide) q282 rfl dX3_shelf_101 rfl (by first | assumption | exact upH_s | exact (upH_n (by assumption)).trans (by assumption) | exact (upH_n (by assumption)).trans upH_s | exact (upH_n (by assumption)).trans ((upH_n (by assumption)).trans (by assumption))) (by rfl) ?_
      refine vc_callV (n' := 107) (ci := 10) h ((c_size de hp el _ _ arr hl1).d hde) rfl (by first | assumption | exact upH_s | exact (upH_n (by assumption)).trans (by assumption) | exact (upH_n (by assumption)).trans upH_s | exact (upH_n (by assumption)).trans ((upH_n (by assumption)).trans (by assumption))) (lw_V q393 q394 q395 q86 q396) hdJ2_size ⟨by omega, by decide⟩ ⟨by omega, by omega⟩ (Nat.le_of_ble_eq_true rfl) dX3_shelf_104 rfl (eI fun z104 hp104 p104 => ?_) rfl
      obtain ⟨ez104, fz104⟩ := p104
      have ez104 := ez104.symm
      have fz104 := fz104.symm
      subst ez104 fz104
      refine v_bipush (n' := 109) h dX3_shelf_107 rfl (by decide) ?_
      refine v_icmp_ge (n' := 112) (tgt := 125) h dX3_shelf_109 rfl rfl (by omega) (by omega) (fun c109 => ?_) (fun c109 => ?_)
      · omega
      · refine v_aload_n (n' := 113) h dX3_shelf_112 rfl rfl ?_
        refine v_bipush (n' := 115) h dX3_shelf_113 rfl (by decide) ?_
        refine v_takes (n' := 118) h hde (p := Q) hP1 (by omega) (by first | assumption | exact upH_s | exact (upH_n (by assumption)).trans (by assumption) | exact (upH_n (by assumption)).trans upH_s | exact (upH_n (by assumption)).trans ((upH_n (by assumption)).trans (by assumption))) (lw_V q381 q383 qs4 q88 q384) (by omega) ⟨by omega, by omega⟩ (Nat.le_of_ble_eq_true rfl) dX3_shelf_115 rfl (fun c115 => ?_) (fun c115 => ?_)
        · refine v_if_eq (n' := 121) (tgt := 125) h dX3_shelf_118 rfl rfl (by omega) (fun c118 => ?_) (fun c118 => ?_)
          · exact absurd c118 (by decide)
          · refine v_iconst (n' := 122) h dX3_shelf_121 rfl ?_
            refine v_goto (tgt := 126) h dX3_shelf_122 rfl ?_
            refine vc_callV (n' := 129) (ci := 3) h ((c_want de _ r).d hde) rfl (by first | assumption | exact upH_s | exact (upH_n (by assumption)).trans (by assumption) | exact (upH_n (by assumption)).trans upH_s | exact (upH_n (by assumption)).trans ((upH_n (by assumption)).trans (by assumption))) (lw_V q311 q313 qs2 q88 q314) hdX3_want ⟨by omega, by decide⟩ ⟨by omega, by omega⟩ (Nat.le_of_ble_eq_true rfl) dX3_shelf_126 rfl (eV fun hp126 p126 => ?_) rfl
            have p126 := p126.symm
            subst p126
            have q5 := nx_e c115 (by decide)
            have R2 := R1.set (Q + 1) (g 0 - 48) (g 1 - 48) (g 3 - 48)
            have pre2 := hpre.next (P' := Q + 1) q5.1 (G5.mpr ⟨q5.2, by omega⟩) rfl
            refine v_aload_n (n' := 130) h dX3_shelf_129 rfl rfl ?_
            refine v_rentry (n' := 133) h hde (P := Q + 1) (xs := xs) hP (by omega) (by omega) R2 pre2 (by first | assumption | exact upH_s | exact (upH_n (by assumption)).trans (by assumption) | exact (upH_n (by assumption)).trans upH_s | exact (upH_n (by assumption)).trans ((upH_n (by assumption)).trans (by assumption))) (lw_V q385 q387 qs5 q88 q388) (by omega) ⟨by omega, by omega⟩ (Nat.le_of_ble_eq_true rfl) dX3_shelf_130 rfl (fun c130 x130 hp130 s130 f130 => ?_) (fun c130 => ?_)
            · exact VT.widen (by omega) (by omega) (KT _ _ _ _ _ _ s130.1 (PageNo s130.1 (by have := s130.2.2; omega)) s130.2.1 f130)
            · refine v_goto (tgt := 85) h dX3_shelf_133 rfl ?_
              exact ih (xs.length + 1) (by omega) _ _ _ _ _ (by rw [List.length_append]; rfl) (by omega) (by omega) (Or.inr ⟨by omega, by omega⟩) c130.2.1 c130.2.2
        · refine v_if_eq (n' := 121) (tgt := 125) h dX3_shelf_118 rfl rfl (by omega) (fun c118 => ?_) (fun c118 => ?_)
          · refine v_iconst (n' := 126) h dX3_shelf_125 rfl ?_
            refine vt_callV (ci := 3) h ((t_want de hp r ax el _ _ _ _ hr).d hde) rfl (by first | assumption | exact upH_s | exact (upH_n (by assumption)).trans (by assumption) | exact (upH_n (by assumption)).trans upH_s | exact (upH_n (by assumption)).trans ((upH_n (by assumption)).trans (by assumption))) (lw_V q311 q313 qs2 q88 q314) q314 q88 hdX3_want ⟨by omega, by decide⟩ ⟨by omega, by omega⟩ (Nat.le_of_ble_eq_true rfl) dX3_shelf_126 (fun x126 hp126 p126 => ?_) rfl
            refine KT.go (by omega) (by omega) R1 p126.1 p126.2 hpre (by omega) (fun w w2 => c115 ?_)
            rw [nx_p w]
            exact (G5.mp w2).1
          · exact absurd c118 (by decide)
theorem rs_67 (h : Ok0 cX3_shelf yX3_shelf.cls (some (.object "CreditShelf$Reader")) (rmK 9 10 80) Γ) (hde : (gD Γ).2.2.1 = de) (hP : PG hp0 ax n g) (KR : KSr Γ de hp0 r el ax n g) (KT : KSt Γ hp0 n g) (hp : AH) (R1 : RS de hp0 hp r el ax 5 (g 0 - 48) (g 1 - 48) (g 3 - 48) [] g) (hpre : Pre g n 5) : V Γ 0 0 hp 67 [some (.ref r)] [] := by
  have hn54 := hP.1.2
  have hr := R1.2.1
  have hP1 := R1.pg hP
  obtain ⟨-, -, A, t, kt, σ, h3, h4, h5, h6⟩ := hP1
  have hz := hpre.2.1
  have ac : acC 0 = 0 ∧ acS 0 = 0 ∧ acC ([] : List Nat).length = 0 ∧ acS ([] : List Nat).length = 0 ∧ acC (([] : List Nat).length + 1) = 1 ∧ acS (([] : List Nat).length + 1) = 10 := by decide
  have e0 : ([] : List Nat).length = 0 := rfl
  refine v_aload_n (n' := 68) h dX3_shelf_67 rfl rfl ?_
  refine v_get (n' := 71) (ci := 3) h rfl in_X3 0 (by decide) q275 rfl dX3_shelf_68 rfl (by first | assumption | exact upH_s | exact (upH_n (by assumption)).trans (by assumption) | exact (upH_n (by assumption)).trans upH_s | exact (upH_n (by assumption)).trans ((upH_n (by assumption)).trans (by assumption))) (by rfl) ?_
  refine v_aload_n (n' := 72) h dX3_shelf_71 rfl rfl ?_
  refine v_get (n' := 75) (ci := 3) h rfl in_X3 5 (by decide) q284 rfl dX3_shelf_72 rfl (by first | assumption | exact upH_s | exact (upH_n (by assumption)).trans (by assumption) | exact (upH_n (by assumption)).trans upH_s | exact (upH_n (by assumption)).trans ((upH_n (by assumption)).trans (by assumption))) (by rfl) ?_
  refine v_getN (n' := 78) (ci := 0) h rfl in_X0 3 (by decide) q192 rfl dX3_shelf_75 rfl (by first | assumption | exact upH_s | exact (upH_n (by assumption)).trans (by assumption) | exact (upH_n (by assumption)).trans upH_s | exact (upH_n (by assumption)).trans ((upH_n (by assumption)).trans (by assumption))) (by rfl) ?_
  refine v_icmp_ge (n' := 81) (tgt := 85) h dX3_shelf_78 rfl rfl (by omega) (by omega) (fun c78 => ?_) (fun c78 => ?_)
  · exact rs_loop h hde hP KR KT 8 0 (by omega) 0 0 hp [] 5 rfl (by omega) (by omega) (Or.inl ⟨rfl, rfl, by omega⟩) R1 hpre
  · refine v_aload_n (n' := 82) h dX3_shelf_81 rfl rfl ?_
    refine v_rentry (n' := 85) h hde (P := 5) (xs := []) hP (by decide) (by decide) R1 hpre (by first | assumption | exact upH_s | exact (upH_n (by assumption)).trans (by assumption) | exact (upH_n (by assumption)).trans upH_s | exact (upH_n (by assumption)).trans ((upH_n (by assumption)).trans (by assumption))) (lw_V q385 q387 qs5 q88 q388) (by omega) ⟨by omega, by omega⟩ (Nat.le_of_ble_eq_true rfl) dX3_shelf_82 rfl (fun c82 x82 hp82 s82 f82 => ?_) (fun c82 => ?_)
    · exact VT.widen (by decide) (by decide) (KT _ _ _ _ _ _ s82.1 (PageNo s82.1 (by have := s82.2.2; omega)) s82.2.1 f82)
    · exact rs_loop h hde hP KR KT 7 1 (by omega) _ _ _ _ 10 rfl (by decide) (by decide) (Or.inr ⟨by omega, by omega⟩) c82.2.1 c82.2.2
theorem rs_A (h : Ok0 cX3_shelf yX3_shelf.cls (some (.object "CreditShelf$Reader")) (rmK 9 10 80) Γ) (hde : (gD Γ).2.2.1 = de) (hP : PG hp0 ax n g) (KR : KSr Γ de hp0 r el ax n g) (KT : KSt Γ hp0 n g) (hp : AH) (R0 : RS de hp0 hp r el ax 0 0 0 0 [] g) : V Γ 0 0 hp 0 [some (.ref r)] [] := by
  have hn0 := hP.1.1
  have hn54 := hP.1.2
  have hr := R0.2.1
  have hP0 := R0.pg hP
  have pre0 : Pre g n 0 := ⟨Int.le_refl _, hn0, fun j h0 h1 => by omega⟩
  have G0 : Good g 0 ↔ 50 ≤ g 0 ∧ g 0 ≤ 52 := Iff.rfl
  have G1 : Good g 1 ↔ isRat (g 0 - 48) (g 1 - 48) := Iff.rfl
  have G2 : Good g 2 ↔ g 2 = 59 := Iff.rfl
  have G3 : Good g 3 ↔ 49 ≤ g 3 ∧ g 3 ≤ 57 := Iff.rfl
  have G4 : Good g 4 ↔ g 4 = 59 := Iff.rfl
  refine v_aload_n (n' := 1) h dX3_shelf_0 rfl rfl ?_
  refine v_aload_n (n' := 2) h dX3_shelf_1 rfl rfl ?_
  refine v_iconst (n' := 3) h dX3_shelf_2 rfl ?_
  refine v_iconst (n' := 4) h dX3_shelf_3 rfl ?_
  refine v_digit (n' := 7) h hde (p := 0) hP0 (by omega) (by first | assumption | exact upH_s | exact (upH_n (by assumption)).trans (by assumption) | exact (upH_n (by assumption)).trans upH_s | exact (upH_n (by assumption)).trans ((upH_n (by assumption)).trans (by assumption))) (lw_V q302 q304 qs0 q88 q305) (by omega) ⟨by omega, by omega⟩ (Nat.le_of_ble_eq_true rfl) dX3_shelf_4 rfl (fun c4 x4 hp4 s4 f4 => ?_) (fun c4 => ?_)
  · refine KT.go (by omega) (by omega) R0 s4 f4 pre0 (by omega) (fun w w2 => c4 ?_)
    have := G0.mp w2
    rw [nx_p w]
    omega
  · refine v_put (n' := 10) (ci := 3) h rfl in_X3 tyX3 tyX3_ok nmX3 1 (by decide) q276 rfl rfl dX3_shelf_7 rfl (by first | assumption | exact upH_s | exact (upH_n (by assumption)).trans (by assumption) | exact (upH_n (by assumption)).trans upH_s | exact (upH_n (by assumption)).trans ((upH_n (by assumption)).trans (by assumption))) (by show 1 < 6; decide) rfl rfl ?_
    have q0 := nx_d c4 (by decide)
    rw [q0.2] at c4
    rw [q0.2, upH_up]
    have R1 := R0.set 1 (g 0 - 48) 0 0
    have hr1 := R1.2.1
    have hP1 := R1.pg hP
    have pre1 := pre0.next (P' := 1) q0.1 (G0.mpr (by omega)) rfl
    refine v_aload_n (n' := 11) h dX3_shelf_10 rfl rfl ?_
    refine v_aload_n (n' := 12) h dX3_shelf_11 rfl rfl ?_
    refine v_aload_n (n' := 13) h dX3_shelf_12 rfl rfl ?_
    refine v_get (n' := 16) (ci := 3) h rfl in_X3 1 (by decide) q276 rfl dX3_shelf_13 rfl (by first | assumption | exact upH_s | exact (upH_n (by assumption)).trans (by assumption) | exact (upH_n (by assumption)).trans upH_s | exact (upH_n (by assumption)).trans ((upH_n (by assumption)).trans (by assumption))) (by rfl) ?_
    refine v_iconst (n' := 17) h dX3_shelf_16 rfl ?_
    refine v_iadd (n' := 18) h dX3_shelf_17 rfl ?_
    refine v_iconst (n' := 19) h dX3_shelf_18 rfl ?_
    refine v_iconst (n' := 20) h dX3_shelf_19 rfl ?_
    refine v_aload_n (n' := 21) h dX3_shelf_20 rfl rfl ?_
    refine v_get (n' := 24) (ci := 3) h rfl in_X3 1 (by decide) q276 rfl dX3_shelf_21 rfl (by first | assumption | exact upH_s | exact (upH_n (by assumption)).trans (by assumption) | exact (upH_n (by assumption)).trans upH_s | exact (upH_n (by assumption)).trans ((upH_n (by assumption)).trans (by assumption))) (by rfl) ?_
    refine v_imul (n' := 25) h dX3_shelf_24 rfl ?_
    refine v_iconst (n' := 26) h dX3_shelf_25 rfl ?_
    refine v_isub (n' := 27) h dX3_shelf_26 rfl ?_
    refine v_mmin (n' := 30) h q378 q379 q92 q380 (rm1 (by omega)) (Nat.le_of_ble_eq_true rfl) (rmC (by omega)) (rmS (by omega)) dX3_shelf_27 rfl (by omega) (by omega) ?_
    have hmn : (mn 5 (2 * (g 0 - 48) - 1) ≤ 5 ∧ mn 5 (2 * (g 0 - 48) - 1) ≤ 2 * (g 0 - 48) - 1) ∧ (mn 5 (2 * (g 0 - 48) - 1) = 5 ∨ mn 5 (2 * (g 0 - 48) - 1) = 2 * (g 0 - 48) - 1) := by
      unfold mn
      split <;> omega
    refine v_digit (n' := 33) h hde (p := 1) hP1 (by omega) (by first | assumption | exact upH_s | exact (upH_n (by assumption)).trans (by assumption) | exact (upH_n (by assumption)).trans upH_s | exact (upH_n (by assumption)).trans ((upH_n (by assumption)).trans (by assumption))) (lw_V q302 q304 qs0 q88 q305) (by omega) ⟨by omega, by omega⟩ (Nat.le_of_ble_eq_true rfl) dX3_shelf_30 rfl (fun c30 x30 hp30 s30 f30 => ?_) (fun c30 => ?_)
    · refine KT.go (by omega) (by omega) R1 s30 f30 pre1 (by omega) (fun w w2 => c30 ?_)
      have := G1.mp w2
      unfold isRat at this
      rw [nx_p w]
      omega
    · refine v_put (n' := 36) (ci := 3) h rfl in_X3 tyX3 tyX3_ok nmX3 2 (by decide) q278 rfl rfl dX3_shelf_33 rfl (by first | assumption | exact upH_s | exact (upH_n (by assumption)).trans (by assumption) | exact (upH_n (by assumption)).trans upH_s | exact (upH_n (by assumption)).trans ((upH_n (by assumption)).trans (by assumption))) (by show 2 < 6; decide) rfl rfl ?_
      have q1 := nx_d c30 (by omega)
      rw [q1.2] at c30
      rw [q1.2, upH_up]
      have R2 := R1.set 2 (g 0 - 48) (g 1 - 48) 0
      rw [upH_up] at R2
      rw [upH_up]
      have hr2 := R2.2.1
      have hP2 := R2.pg hP
      have pre2 := pre1.next (P' := 2) q1.1 (G1.mpr (by unfold isRat; omega)) rfl
      refine v_aload_n (n' := 37) h dX3_shelf_36 rfl rfl ?_
      refine v_aload_n (n' := 38) h dX3_shelf_37 rfl rfl ?_
      refine v_bipush (n' := 40) h dX3_shelf_38 rfl (by decide) ?_
      refine v_takes (n' := 43) h hde (p := 2) hP2 (by omega) (by first | assumption | exact upH_s | exact (upH_n (by assumption)).trans (by assumption) | exact (upH_n (by assumption)).trans upH_s | exact (upH_n (by assumption)).trans ((upH_n (by assumption)).trans (by assumption))) (lw_V q381 q383 qs4 q88 q384) (by omega) ⟨by omega, by omega⟩ (Nat.le_of_ble_eq_true rfl) dX3_shelf_40 rfl (fun c40 => ?_) (fun c40 => ?_)
      · refine vc_callV (n' := 46) (ci := 3) h ((c_want de _ r).d hde) rfl (by first | assumption | exact upH_s | exact (upH_n (by assumption)).trans (by assumption) | exact (upH_n (by assumption)).trans upH_s | exact (upH_n (by assumption)).trans ((upH_n (by assumption)).trans (by assumption))) (lw_V q311 q313 qs2 q88 q314) hdX3_want ⟨by omega, by decide⟩ ⟨by omega, by omega⟩ (Nat.le_of_ble_eq_true rfl) dX3_shelf_43 rfl (eV fun hp43 p43 => ?_) rfl
        have p43 := p43.symm
        subst p43
        have q2 := nx_e c40 (by decide)
        have R3 := R2.set 3 (g 0 - 48) (g 1 - 48) 0
        rw [upH_up] at R3
        rw [upH_up]
        have hr3 := R3.2.1
        have hP3 := R3.pg hP
        have pre3 := pre2.next (P' := 3) q2.1 (G2.mpr q2.2) rfl
        refine v_aload_n (n' := 47) h dX3_shelf_46 rfl rfl ?_
        refine v_aload_n (n' := 48) h dX3_shelf_47 rfl rfl ?_
        refine v_iconst (n' := 49) h dX3_shelf_48 rfl ?_
        refine v_bipush (n' := 51) h dX3_shelf_49 rfl (by decide) ?_
        refine v_digit (n' := 54) h hde (p := 3) hP3 (by omega) (by first | assumption | exact upH_s | exact (upH_n (by assumption)).trans (by assumption) | exact (upH_n (by assumption)).trans upH_s | exact (upH_n (by assumption)).trans ((upH_n (by assumption)).trans (by assumption))) (lw_V q302 q304 qs0 q88 q305) (by omega) ⟨by omega, by omega⟩ (Nat.le_of_ble_eq_true rfl) dX3_shelf_51 rfl (fun c51 x51 hp51 s51 f51 => ?_) (fun c51 => ?_)
        · refine KT.go (by omega) (by omega) R3 s51 f51 pre3 (by omega) (fun w w2 => c51 ?_)
          have := G3.mp w2
          rw [nx_p w]
          omega
        · refine v_put (n' := 57) (ci := 3) h rfl in_X3 tyX3 tyX3_ok nmX3 3 (by decide) q280 rfl rfl dX3_shelf_54 rfl (by first | assumption | exact upH_s | exact (upH_n (by assumption)).trans (by assumption) | exact (upH_n (by assumption)).trans upH_s | exact (upH_n (by assumption)).trans ((upH_n (by assumption)).trans (by assumption))) (by show 3 < 6; decide) rfl rfl ?_
          have q3 := nx_d c51 (by decide)
          rw [q3.2] at c51
          rw [q3.2, upH_up]
          have R4 := R3.set 4 (g 0 - 48) (g 1 - 48) (g 3 - 48)
          rw [upH_up] at R4
          rw [upH_up]
          have hr4 := R4.2.1
          have hP4 := R4.pg hP
          have pre4 := pre3.next (P' := 4) q3.1 (G3.mpr (by omega)) rfl
          refine v_aload_n (n' := 58) h dX3_shelf_57 rfl rfl ?_
          refine v_aload_n (n' := 59) h dX3_shelf_58 rfl rfl ?_
          refine v_bipush (n' := 61) h dX3_shelf_59 rfl (by decide) ?_
          refine v_takes (n' := 64) h hde (p := 4) hP4 (by omega) (by first | assumption | exact upH_s | exact (upH_n (by assumption)).trans (by assumption) | exact (upH_n (by assumption)).trans upH_s | exact (upH_n (by assumption)).trans ((upH_n (by assumption)).trans (by assumption))) (lw_V q381 q383 qs4 q88 q384) (by omega) ⟨by omega, by omega⟩ (Nat.le_of_ble_eq_true rfl) dX3_shelf_61 rfl (fun c61 => ?_) (fun c61 => ?_)
          · refine vc_callV (n' := 67) (ci := 3) h ((c_want de _ r).d hde) rfl (by first | assumption | exact upH_s | exact (upH_n (by assumption)).trans (by assumption) | exact (upH_n (by assumption)).trans upH_s | exact (upH_n (by assumption)).trans ((upH_n (by assumption)).trans (by assumption))) (lw_V q311 q313 qs2 q88 q314) hdX3_want ⟨by omega, by decide⟩ ⟨by omega, by omega⟩ (Nat.le_of_ble_eq_true rfl) dX3_shelf_64 rfl (eV fun hp64 p64 => ?_) rfl
            have p64 := p64.symm
            subst p64
            have q4 := nx_e c61 (by decide)
            have R5 := R4.set 5 (g 0 - 48) (g 1 - 48) (g 3 - 48)
            exact rs_67 h hde hP KR KT _ R5 (pre4.next (P' := 5) q4.1 (G4.mpr q4.2) rfl)
          · refine vt_callV (ci := 3) h ((t_want de _ r ax el _ _ _ _ hr4).d hde) rfl (by first | assumption | exact upH_s | exact (upH_n (by assumption)).trans (by assumption) | exact (upH_n (by assumption)).trans upH_s | exact (upH_n (by assumption)).trans ((upH_n (by assumption)).trans (by assumption))) (lw_V q311 q313 qs2 q88 q314) q314 q88 hdX3_want ⟨by omega, by decide⟩ ⟨by omega, by omega⟩ (Nat.le_of_ble_eq_true rfl) dX3_shelf_64 (fun x64 hp64 p64 => ?_) rfl
            refine KT.go (by omega) (by omega) R4 p64.1 p64.2 pre4 (by omega) (fun w w2 => c61 ?_)
            rw [nx_p w]
            exact G4.mp w2
      · refine vt_callV (ci := 3) h ((t_want de _ r ax el _ _ _ _ hr2).d hde) rfl (by first | assumption | exact upH_s | exact (upH_n (by assumption)).trans (by assumption) | exact (upH_n (by assumption)).trans upH_s | exact (upH_n (by assumption)).trans ((upH_n (by assumption)).trans (by assumption))) (lw_V q311 q313 qs2 q88 q314) q314 q88 hdX3_want ⟨by omega, by decide⟩ ⟨by omega, by omega⟩ (Nat.le_of_ble_eq_true rfl) dX3_shelf_43 (fun x43 hp43 p43 => ?_) rfl
        refine KT.go (by omega) (by omega) R2 p43.1 p43.2 pre2 (by omega) (fun w w2 => c40 ?_)
        rw [nx_p w]
        exact G2.mp w2
end SB
theorem c_rshelf (de : Nat) (hp0 hp : AH) (r el ax : Nat) (n : Int) (g : Int → Int) (hP : PG hp0 ax n g) (R0 : RS de hp0 hp r el ax 0 0 0 0 [] g) (hok : PageOk g n) : CtE de yX3_shelf cX3_shelf 1 (some (.object "CreditShelf$Reader")) (rmK 9 10 80) [.ref r] hp (rR (fun z hp' => z = r ∧ ∃ xs : List Nat, xs.length = ((n - 4) / 6).toNat ∧ RS de hp0 hp' r el ax n (g 0 - 48) (g 1 - 48) (g 3 - 48) xs g)) := by
  refine CtE.of (by decide) (EL.c1 rfl EL.n0) (fun Γ h hq hnm hde => ?_)
  refine rs_A h hde hP ?_ ?_ hp R0
  · intro hp' xs L q1 q2 q3
    refine v_aret h hq dX3_shelf_137 (Or.inl ⟨_, rfl⟩) (Or.inr ⟨_, rfl⟩) (by omega) (by omega) (ret_r ?_)
    exact ⟨rfl, xs, q2, q3⟩
  · intro pc L st z x hp' h1 h0 h2 h3
    exact absurd hok h0
theorem t_rshelf (de : Nat) (hp0 hp : AH) (r el ax : Nat) (n : Int) (g : Int → Int) (hP : PG hp0 ax n g) (R0 : RS de hp0 hp r el ax 0 0 0 0 [] g) (hno : ¬ PageOk g n) : CtT de yX3_shelf cX3_shelf 1 (some (.object "CreditShelf$Reader")) (rmK 9 10 80) [.ref r] hp (fun x hp' => ∃ z, Flt g n z ∧ StpO hp' x z ∧ Frm (Fsh hp0) hp0 hp') := by
  refine CtT.of (by decide) (EL.c1 rfl EL.n0) (fun Γ h hq hnm hde hxt => ?_)
  refine rs_A h hde hP ?_ ?_ hp R0
  · intro hp' xs L q1 q2 q3
    exact absurd q1 hno
  · intro pc L st z x hp' h1 h0 h2 h3
    exact VT.out h hq hxt rfl rfl ⟨z, h1, h2, h3⟩
