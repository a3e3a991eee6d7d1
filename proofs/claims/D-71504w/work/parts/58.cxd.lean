/-! THE CLASS: sorts, by bits -/
set_option maxRecDepth 100000
theorem or_nat : ∀ a b : Fin 32, iI (a.val : Int) ||| iI (b.val : Int) = iI ((a.val ||| b.val : Nat) : Int) := by decide +kernel
theorem shl1 : ∀ k : Fin 5, iI 1 <<< (iI (k.val : Int) &&& 31) = iI ((2 ^ k.val : Nat) : Int) := by decide +kernel
theorem bits_s : ∀ N : Fin 32, ∀ j : Fin 5, (N.val % 2 ^ j.val) ||| (if N.val.testBit j.val then 2 ^ j.val else 0) = N.val % 2 ^ (j.val + 1) := by decide +kernel
theorem bits_l : ∀ N : Fin 32, ∀ j : Fin 6, N.val % 2 ^ j.val < 32 := by decide +kernel
theorem sb_bit {w : Int} (hw : 0 ≤ w ∧ w ≤ 3) {kd : Nat} (hk : kd < 5) : ((sbN w).testBit kd = true ↔ coP w kd) ∧ ((31 - sbN w).testBit kd = true ↔ ¬ coP w kd) := by
  have hw : w = 0 ∨ w = 1 ∨ w = 2 ∨ w = 3 := by omega
  have hk : kd = 0 ∨ kd = 1 ∨ kd = 2 ∨ kd = 3 ∨ kd = 4 := by omega
  rcases hw with rfl | rfl | rfl | rfl <;> rcases hk with rfl | rfl | rfl | rfl | rfl <;> simp [sbN, coP] <;> decide
/-- one sight agrees with a kind -/
def agr (key : Int) (kd : Nat) (x : Int × Int × Int) : Prop := x.1 ≠ key ∨ bi (coP x.2.1 kd) = x.2.2
theorem srt_bit {key : Int} {kd : Nat} (hk : kd < 5) : ∀ (sn : List (Int × Int × Int)) (b : Nat), SeenOk sn → ((sn.foldl (srtStep key) b).testBit kd = true ↔ b.testBit kd = true ∧ ∀ x ∈ sn, agr key kd x) := by
  intro sn
  induction sn with
  | nil => intro b _; simp
  | cons x sn ih =>
    intro b hs
    obtain ⟨h1, h2, h3⟩ := hs x List.mem_cons_self
    rw [List.foldl_cons, ih _ (fun y hy => hs y (List.mem_cons_of_mem _ hy)), List.forall_mem_cons]
    have e : (srtStep key b x).testBit kd = true ↔ b.testBit kd = true ∧ agr key kd x := by
      unfold srtStep agr
      obtain ⟨q1, q2⟩ := sb_bit h2 hk
      by_cases c : x.1 = key
      · rw [if_pos c, Nat.testBit_and]
        by_cases c1 : x.2.2 = 1
        · rw [if_pos c1, Bool.and_eq_true, q1, c1, bi_1]
          constructor
          · rintro ⟨a, b⟩; exact ⟨a, Or.inr b⟩
          · rintro ⟨a, b | b⟩
            · exact absurd c b
            · exact ⟨a, b⟩
        · have c0 : x.2.2 = 0 := by omega
          rw [if_neg c1, Bool.and_eq_true, q2, c0, bi_0]
          constructor
          · rintro ⟨a, b⟩; exact ⟨a, Or.inr b⟩
          · rintro ⟨a, b | b⟩
            · exact absurd c b
            · exact ⟨a, b⟩
      · rw [if_neg c]
        exact ⟨fun a => ⟨a, Or.inl c⟩, fun a => a.1⟩
    rw [e, and_assoc]
theorem srtN_bit {key : Int} {kd : Nat} (hk : kd < 5) {sn : List (Int × Int × Int)} (hs : SeenOk sn) : (srtN sn key).testBit kd = true ↔ ∀ x ∈ sn, agr key kd x := by
  unfold srtN
  rw [srt_bit hk sn 31 hs]
  have : (31 : Nat).testBit kd = true := by
    have : kd = 0 ∨ kd = 1 ∨ kd = 2 ∨ kd = 3 ∨ kd = 4 := by omega
    rcases this with rfl | rfl | rfl | rfl | rfl <;> decide
  exact ⟨fun a => a.2, fun a => ⟨this, a⟩⟩
theorem bi_and1 (p : Prop) : iI (bi p) &&& iI 1 = iI (bi p) := by rcases bi_01 p with h | h <;> rw [h] <;> decide
theorem bi_and0 (p : Prop) : iI (bi p) &&& iI 0 = iI 0 := by rcases bi_01 p with h | h <;> rw [h] <;> decide
theorem c_sortsOf (de : Nat) (hp : AH) (W : Nat → Prop) (ax : Nat) (A : Nat → Nat) (t : Nat) (kt : Option Nat) (σ : MS) (ad : Nat → Nat) (s : SS) (hH : CH de hp W ax A t kt σ ad s) (hX : XS σ s) (hS : SeenOk (sC s).2.2.2.2) (key : Int) (hk : -2147483648 ≤ key ∧ key ≤ 2147483647) : CtE de yX0_sortsOf cX0_sortsOf 6 (some .int) (rmK 10 180 900) [.ref ax, .int (iI key)] hp (rI (fun z hp' => z = (srtN (sC s).2.2.2.2 key : Int) ∧ ∃ W', CH de hp' W' ax A t kt σ ad s)) := by
  obtain ⟨x1, x2, x3, x4, ⟨g1, g2, g3⟩, x6⟩ := hX
  have hN := srtN_lt (sC s).2.2.2.2 key
  have hbit : ∀ kd, kd < 5 → ((srtN (sC s).2.2.2.2 key).testBit kd = true ↔ ∀ x ∈ (sC s).2.2.2.2, agr key kd x) := fun kd h => srtN_bit h hS
  generalize hSN : (sC s).2.2.2.2 = sn at g1 g2 g3 hS hN hbit
  generalize hNN : srtN sn key = N at hN hbit
  refine CtE.of (by decide) (EL.c1 rfl (EL.c1 rfl (EL.nn (EL.nn (EL.nn (EL.nn EL.n0)))))) (fun Γ h hq hnm hde => ?_)
  have loop : ∀ (m kd : Nat) (hp1 : AH) (W1 : Nat → Prop) (v4 v5 : Option Value), kd + m = 5 → c2 v4 = false → CH de hp1 W1 ax A t kt σ ad s → V Γ (36 * kd) (180 * kd) hp1 4 [some (.ref ax), some (.int (iI key)), some (.int (iI ((N % 2 ^ kd : Nat) : Int))), some (.int (iI kd)), v4, v5] [] := by
    intro m
    induction m with
    | zero =>
      intro kd hp1 W1 v4 v5 hm hv4 H1
      obtain rfl : kd = 5 := by omega
      refine v_iload_n (n' := 5) h dX0_sortsOf_4 rfl rfl ?_
      refine v_iconst (n' := 6) h dX0_sortsOf_5 rfl ?_
      refine v_icmp_ge (n' := 9) (tgt := 94) h dX0_sortsOf_6 rfl rfl (by omega) (by omega) (fun c6 => ?_) (fun c6 => ?_)
      · refine v_iload_n (n' := 95) h dX0_sortsOf_94 rfl rfl ?_
        refine v_iret h hq dX0_sortsOf_95 (by omega) (by omega) (ret_i ?_)
        exact ⟨by rw [Nat.mod_eq_of_lt (show N < 2 ^ 5 by omega)], W1, H1⟩
      · omega
    | succ m ih =>
      intro kd hp1 W1 v4 v5 hm hv4 H1
      have ek : ((kd + 1 : Nat) : Int) = (kd : Int) + 1 := by omega
      have inner : ∀ (mm k : Nat) (hp2 : AH) (W2 : Nat → Prop), k + mm = sn.length → CH de hp2 W2 ax A t kt σ ad s → V Γ (36 * kd + 6 * k) (180 * kd + 30 * k) hp2 15 [some (.ref ax), some (.int (iI key)), some (.int (iI ((N % 2 ^ kd : Nat) : Int))), some (.int (iI kd)), some (.int (iI (bi (∀ i, i < k → agr key kd (sn.getD i (0, 0, 0)))))), some (.int (iI k))] [] := by
        intro mm
        induction mm with
        | zero =>
          intro k hp2 W2 hk2 H2
          have hx2 := H2.1.1
          obtain rfl : k = sn.length := by omega
          have eall : (∀ i, i < sn.length → agr key kd (sn.getD i (0, 0, 0))) ↔ N.testBit kd = true := by
            rw [hbit kd (by omega)]
            constructor
            · intro q x hx
              obtain ⟨i, hi, rfl⟩ := List.getElem_of_mem hx
              have := q i hi
              rw [List.getD_eq_getElem?_getD, List.getElem?_eq_getElem hi] at this
              exact this
            · intro q i hi
              rw [List.getD_eq_getElem?_getD, List.getElem?_eq_getElem hi]
              exact q _ (List.getElem_mem hi)
          have hbs := bits_s ⟨N, hN⟩ ⟨kd, by omega⟩
          have hbl := bits_l ⟨N, hN⟩ ⟨kd, by omega⟩
          simp only at hbs hbl
          have h2k : 2 ^ kd < 32 := by
            have : kd = 0 ∨ kd = 1 ∨ kd = 2 ∨ kd = 3 ∨ kd = 4 := by omega
            rcases this with rfl | rfl | rfl | rfl | rfl <;> decide
          refine v_iload (n' := 17) h dX0_sortsOf_15 rfl rfl ?_
          refine v_aload_n (n' := 18) h dX0_sortsOf_17 rfl rfl ?_
          refine v_get (n' := 21) (ci := 0) h rfl in_X0 6 (by decide) q196 rfl dX0_sortsOf_18 rfl (by first | assumption | exact upH_s | exact (upH_n (by assumption)).trans (by assumption) | exact (upH_n (by assumption)).trans upH_s | exact (upH_n (by assumption)).trans ((upH_n (by assumption)).trans (by assumption))) (by rfl) ?_
          refine v_icmp_ge (n' := 24) (tgt := 73) h dX0_sortsOf_21 rfl rfl (by omega) (by omega) (fun c21 => ?_) (fun c21 => ?_)
          · refine v_iload_n (n' := 74) h dX0_sortsOf_73 rfl rfl ?_
            refine v_iload (n' := 76) h dX0_sortsOf_74 rfl rfl ?_
            refine v_bif_eq (n' := 79) (tgt := 85) h dX0_sortsOf_76 rfl rfl (fun c76 => ?_) (fun c76 => ?_)
            · refine v_iconst (n' := 86) h dX0_sortsOf_85 rfl ?_
              refine v_ior (n' := 87) h dX0_sortsOf_86 rfl (or_nat ⟨N % 2 ^ kd, hbl⟩ ⟨0, by decide⟩) ?_
              refine v_istore2 (n' := 88) h dX0_sortsOf_87 rfl rfl ?_
              refine v_iinc3 (n' := 91) h dX0_sortsOf_88 rfl rfl ?_
              refine v_goto (tgt := 4) h dX0_sortsOf_91 rfl ?_
              rw [if_neg (fun z => c76 (eall.mpr z))] at hbs
              rw [← ek]
              have q := ih (kd + 1) hp2 W2 (some (.int (iI (bi (∀ i, i < sn.length → agr key kd (sn.getD i (0, 0, 0))))))) (some (.int (iI sn.length))) (by omega) rfl H2
              rw [← hbs] at q
              exact V.widen (by omega) (by omega) q
            · refine v_iconst (n' := 80) h dX0_sortsOf_79 rfl ?_
              refine v_iload_n (n' := 81) h dX0_sortsOf_80 rfl rfl ?_
              refine v_ishl (n' := 82) h dX0_sortsOf_81 rfl (shl1 ⟨kd, by omega⟩) ?_
              refine v_goto (tgt := 86) h dX0_sortsOf_82 rfl ?_
              refine v_ior (n' := 87) h dX0_sortsOf_86 rfl (or_nat ⟨N % 2 ^ kd, hbl⟩ ⟨2 ^ kd, h2k⟩) ?_
              refine v_istore2 (n' := 88) h dX0_sortsOf_87 rfl rfl ?_
              refine v_iinc3 (n' := 91) h dX0_sortsOf_88 rfl rfl ?_
              refine v_goto (tgt := 4) h dX0_sortsOf_91 rfl ?_
              rw [if_pos (eall.mp c76)] at hbs
              rw [← ek]
              have q := ih (kd + 1) hp2 W2 (some (.int (iI (bi (∀ i, i < sn.length → agr key kd (sn.getD i (0, 0, 0))))))) (some (.int (iI sn.length))) (by omega) rfl H2
              rw [← hbs] at q
              exact V.widen (by omega) (by omega) q
          · omega
        | succ mm ihh =>
          intro k hp2 W2 hk2 H2
          have hx2 := H2.1.1
          have a7 : hp2 (A 7) = some (aG 0 6 (σ.2 7)) := (H2.1.2.2.1 7 (by decide)).1
          have a8 : hp2 (A 8) = some (aG 0 6 (σ.2 8)) := (H2.1.2.2.1 8 (by decide)).1
          have a9 : hp2 (A 9) = some (aG 2 6 (σ.2 9)) := (H2.1.2.2.1 9 (by decide)).1
          obtain ⟨e7, e8, e9⟩ := g3 k (by omega)
          have hmem : sn.getD k (0, 0, 0) ∈ sn := by
            rw [List.getD_eq_getElem?_getD, List.getElem?_eq_getElem (by omega)]
            exact List.getElem_mem _
          obtain ⟨s1, s2, s3⟩ := hS _ hmem
          have ekk : ((k + 1 : Nat) : Int) = (k : Int) + 1 := by omega
          have hstep : (∀ i, i < k + 1 → agr key kd (sn.getD i (0, 0, 0))) ↔ (∀ i, i < k → agr key kd (sn.getD i (0, 0, 0))) ∧ agr key kd (sn.getD k (0, 0, 0)) := by
            constructor
            · intro q; exact ⟨fun i hi => q i (by omega), q k (by omega)⟩
            · intro q i hi
              by_cases c : i = k
              · rw [c]; exact q.2
              · exact q.1 i (by omega)
          generalize hxk : sn.getD k (0, 0, 0) = xk at e7 e8 e9 s1 s2 s3 hstep
          have nextY : ∀ (hp3 : AH) (W3 : Nat → Prop) (k3 n3 : Nat), k3 ≤ 36 * kd + 6 * (k + 1) → n3 ≤ 180 * kd + 30 * (k + 1) → CH de hp3 W3 ax A t kt σ ad s → agr key kd xk → V Γ k3 n3 hp3 15 [some (.ref ax), some (.int (iI key)), some (.int (iI ((N % 2 ^ kd : Nat) : Int))), some (.int (iI kd)), some (.int (iI (bi (∀ i, i < k → agr key kd (sn.getD i (0, 0, 0)))))), some (.int (iI ((k : Int) + 1)))] [] := by
            intro hp3 W3 k3 n3 h1 h2 H3 ha
            rw [← ekk, bi_c (show (∀ i, i < k → agr key kd (sn.getD i (0, 0, 0))) ↔ (∀ i, i < k + 1 → agr key kd (sn.getD i (0, 0, 0))) from ⟨fun q => hstep.mpr ⟨q, ha⟩, fun q => (hstep.mp q).1⟩)]
            exact V.widen h1 h2 (ihh (k + 1) hp3 W3 (by omega) H3)
          have nextN : ∀ (hp3 : AH) (W3 : Nat → Prop) (k3 n3 : Nat), k3 ≤ 36 * kd + 6 * (k + 1) → n3 ≤ 180 * kd + 30 * (k + 1) → CH de hp3 W3 ax A t kt σ ad s → ¬ agr key kd xk → V Γ k3 n3 hp3 15 [some (.ref ax), some (.int (iI key)), some (.int (iI ((N % 2 ^ kd : Nat) : Int))), some (.int (iI kd)), some (.int (iI 0)), some (.int (iI ((k : Int) + 1)))] [] := by
            intro hp3 W3 k3 n3 h1 h2 H3 ha
            have q := ihh (k + 1) hp3 W3 (by omega) H3
            rw [bi_f (fun z => ha (hstep.mp z).2), ekk] at q
            exact V.widen h1 h2 q
          refine v_iload (n' := 17) h dX0_sortsOf_15 rfl rfl ?_
          refine v_aload_n (n' := 18) h dX0_sortsOf_17 rfl rfl ?_
          refine v_get (n' := 21) (ci := 0) h rfl in_X0 6 (by decide) q196 rfl dX0_sortsOf_18 rfl (by first | assumption | exact upH_s | exact (upH_n (by assumption)).trans (by assumption) | exact (upH_n (by assumption)).trans upH_s | exact (upH_n (by assumption)).trans ((upH_n (by assumption)).trans (by assumption))) (by rfl) ?_
          refine v_icmp_ge (n' := 24) (tgt := 73) h dX0_sortsOf_21 rfl rfl (by omega) (by omega) (fun c21 => ?_) (fun c21 => ?_)
          · omega
          · refine v_iload (n' := 26) h dX0_sortsOf_24 rfl rfl ?_
            refine v_aload_n (n' := 27) h dX0_sortsOf_26 rfl rfl ?_
            refine v_get (n' := 30) (ci := 0) h rfl in_X0 7 (by decide) q197 rfl dX0_sortsOf_27 rfl (by first | assumption | exact upH_s | exact (upH_n (by assumption)).trans (by assumption) | exact (upH_n (by assumption)).trans upH_s | exact (upH_n (by assumption)).trans ((upH_n (by assumption)).trans (by assumption))) (by rfl) ?_
            refine v_iload (n' := 32) h dX0_sortsOf_30 rfl rfl ?_
            refine v_giald (n' := 33) h dX0_sortsOf_32 rfl (by first | assumption | exact upH_s | exact (upH_n (by assumption)).trans (by assumption) | exact (upH_n (by assumption)).trans upH_s | exact (upH_n (by assumption)).trans ((upH_n (by assumption)).trans (by assumption))) (by omega) (by omega) ?_
            rw [e7]
            refine v_iload_n (n' := 34) h dX0_sortsOf_33 rfl rfl ?_
            refine v_icmp_ne (n' := 37) (tgt := 59) h dX0_sortsOf_34 rfl rfl (by omega) (by omega) (fun c34 => ?_) (fun c34 => ?_)
            · refine v_iconst (n' := 60) h dX0_sortsOf_59 rfl ?_
              refine v_goto (tgt := 64) h dX0_sortsOf_60 rfl ?_
              refine v_iand (n' := 65) h dX0_sortsOf_64 rfl (bi_and1 _) ?_
              refine v_istore4 (n' := 67) h dX0_sortsOf_65 rfl rfl ?_
              refine v_iinc5 (n' := 70) h dX0_sortsOf_67 rfl rfl ?_
              refine v_goto (tgt := 15) h dX0_sortsOf_70 rfl ?_
              exact nextY hp2 W2 _ _ (by omega) (by omega) H2 (Or.inl c34)
            · refine v_aload_n (n' := 38) h dX0_sortsOf_37 rfl rfl ?_
              refine v_iload_n (n' := 39) h dX0_sortsOf_38 rfl rfl ?_
              refine v_aload_n (n' := 40) h dX0_sortsOf_39 rfl rfl ?_
              refine v_get (n' := 43) (ci := 0) h rfl in_X0 8 (by decide) q198 rfl dX0_sortsOf_40 rfl (by first | assumption | exact upH_s | exact (upH_n (by assumption)).trans (by assumption) | exact (upH_n (by assumption)).trans upH_s | exact (upH_n (by assumption)).trans ((upH_n (by assumption)).trans (by assumption))) (by rfl) ?_
              refine v_iload (n' := 45) h dX0_sortsOf_43 rfl rfl ?_
              refine v_giald (n' := 46) h dX0_sortsOf_45 rfl (by first | assumption | exact upH_s | exact (upH_n (by assumption)).trans (by assumption) | exact (upH_n (by assumption)).trans upH_s | exact (upH_n (by assumption)).trans ((upH_n (by assumption)).trans (by assumption))) (by omega) (by omega) ?_
              rw [e8]
              refine vc_callV (n' := 49) (ci := 0) h ((c_wouldDo de hp2 W2 ax A t kt σ ad s H2 kd (by omega) xk.2.1 (by omega)).d hde) rfl (by first | assumption | exact upH_s | exact (upH_n (by assumption)).trans (by assumption) | exact (upH_n (by assumption)).trans upH_s | exact (upH_n (by assumption)).trans ((upH_n (by assumption)).trans (by assumption))) (lw_V q849 q851 qs31 q82 q852) hdX0_wouldDo ⟨by omega, by decide⟩ ⟨by omega, by omega⟩ (Nat.le_of_ble_eq_true rfl) dX0_sortsOf_46 rfl (eI fun z46 hp46 p46 => ?_) rfl
              obtain ⟨ez46, W46, H46⟩ := p46
              subst ez46
              have hx46 := H46.1.1
              have a946 : hp46 (A 9) = some (aG 2 6 (σ.2 9)) := (H46.1.2.2.1 9 (by decide)).1
              have hbr := bi_r (coP xk.2.1 kd)
              refine v_aload_n (n' := 50) h dX0_sortsOf_49 rfl rfl ?_
              refine v_get (n' := 53) (ci := 0) h rfl in_X0 9 (by decide) q199 rfl dX0_sortsOf_50 rfl (by first | assumption | exact upH_s | exact (upH_n (by assumption)).trans (by assumption) | exact (upH_n (by assumption)).trans upH_s | exact (upH_n (by assumption)).trans ((upH_n (by assumption)).trans (by assumption))) (by rfl) ?_
              refine v_iload (n' := 55) h dX0_sortsOf_53 rfl rfl ?_
              refine v_gzald (n' := 56) h dX0_sortsOf_55 rfl (by first | assumption | exact upH_s | exact (upH_n (by assumption)).trans (by assumption) | exact (upH_n (by assumption)).trans upH_s | exact (upH_n (by assumption)).trans ((upH_n (by assumption)).trans (by assumption))) (by omega) (by omega) ?_
              rw [e9]
              refine v_icmp_ne (n' := 59) (tgt := 63) h dX0_sortsOf_56 rfl rfl (by omega) (by omega) (fun c56 => ?_) (fun c56 => ?_)
              · refine v_iconst (n' := 64) h dX0_sortsOf_63 rfl ?_
                refine v_iand (n' := 65) h dX0_sortsOf_64 rfl (bi_and0 _) ?_
                refine v_istore4 (n' := 67) h dX0_sortsOf_65 rfl rfl ?_
                refine v_iinc5 (n' := 70) h dX0_sortsOf_67 rfl rfl ?_
                refine v_goto (tgt := 15) h dX0_sortsOf_70 rfl ?_
                exact nextN hp46 W46 _ _ (by omega) (by omega) H46 (fun z => by
                rcases z with z | z
                · exact z c34
                · exact c56 z)
              · refine v_iconst (n' := 60) h dX0_sortsOf_59 rfl ?_
                refine v_goto (tgt := 64) h dX0_sortsOf_60 rfl ?_
                refine v_iand (n' := 65) h dX0_sortsOf_64 rfl (bi_and1 _) ?_
                refine v_istore4 (n' := 67) h dX0_sortsOf_65 rfl rfl ?_
                refine v_iinc5 (n' := 70) h dX0_sortsOf_67 rfl rfl ?_
                refine v_goto (tgt := 15) h dX0_sortsOf_70 rfl ?_
                exact nextY hp46 W46 _ _ (by omega) (by omega) H46 (Or.inr c56)
      refine v_iload_n (n' := 5) h dX0_sortsOf_4 rfl rfl ?_
      refine v_iconst (n' := 6) h dX0_sortsOf_5 rfl ?_
      refine v_icmp_ge (n' := 9) (tgt := 94) h dX0_sortsOf_6 rfl rfl (by omega) (by omega) (fun c6 => ?_) (fun c6 => ?_)
      · omega
      · refine v_iconst (n' := 10) h dX0_sortsOf_9 rfl ?_
        refine v_istore4 (n' := 12) h dX0_sortsOf_10 rfl rfl ?_
        refine v_iconst (n' := 13) h dX0_sortsOf_12 rfl ?_
        refine v_istore5 (n' := 15) h dX0_sortsOf_13 rfl rfl ?_
        have q := inner sn.length 0 hp1 W1 (by omega) H1
        rw [bi_t (fun i hi => absurd hi (Nat.not_lt_zero i))] at q
        exact q
  refine v_iconst (n' := 1) h dX0_sortsOf_0 rfl ?_
  refine v_istore2 (n' := 2) h dX0_sortsOf_1 rfl rfl ?_
  refine v_iconst (n' := 3) h dX0_sortsOf_2 rfl ?_
  refine v_istore3 (n' := 4) h dX0_sortsOf_3 rfl rfl ?_
  have q := loop 5 0 hp W none none (by omega) rfl hH
  rw [show N % 2 ^ 0 = 0 from Nat.mod_one N] at q
  exact q
