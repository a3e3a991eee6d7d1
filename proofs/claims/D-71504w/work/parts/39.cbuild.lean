/-! TREES of entries: collected, built flat -/
set_option maxRecDepth 100000
theorem acMM {m n : Nat} (h : m ≤ n) : acC m ≤ acC n ∧ acS m ≤ acS n := by
  induction n with
  | zero => obtain rfl : m = 0 := by omega
            omega
  | succ n ih =>
    by_cases c : m = n + 1
    · rw [c]; omega
    · have := ih (by omega)
      have := acM n
      omega
theorem Ls.len {hp : AH} {R : Nat → Prop} {de w : Nat} {xs : List Nat} (h : Ls hp R de w xs) : ∃ arr, hp w = some (lO xs.length xs.length arr) := ⟨h.choose, h.choose_spec.1⟩
def EnR (R : Nat → Prop) (hp : AH) (xs : List Nat) : Prop := En hp xs ∧ ∀ y ∈ xs, ¬ R y
theorem EnR.frm {R : Nat → Prop} {hp hp' : AH} {xs : List Nat} (h : EnR R hp xs) (f : Frm R hp hp') : EnR R hp' xs := by
  refine ⟨fun y hy => ?_, h.2⟩
  obtain ⟨kd, fs, h1, h2⟩ := h.1 y hy
  exact ⟨kd, fs, h1, f.at h2 (h.2 y hy)⟩
theorem c_collect (de : Nat) (R W : Nat → Prop) (ad : Nat → Nat) (K U : Nat → Int) (w : Nat) : ∀ (T : Tr) (hp : AH) (xs : List Nat), HT hp W ad K U T → (∀ x ∈ tl T, ¬ R (ad x)) → Ls hp R de w xs → Fre R hp → EnR R hp xs → xs.length + tz T ≤ 48 → ∀ d, tz T ≤ d → d ≤ 1000 →
    CtE de yX1_collect cX1_collect 2 none (rmK (d + 8) (acC (xs.length + tz T) - acC xs.length) (acS (xs.length + tz T) - acS xs.length)) [va_rf ((ro T).map ad), .ref w] hp (rV (fun hp' => Ls hp' R de w (xs ++ (tl T).map ad) ∧ Frm R hp hp')) := by
  intro T
  induction T with
  | leaf u =>
    intro hp xs hT hR hl hf hE hx d hd hd2
    show CtE de yX1_collect cX1_collect 2 none (rmK (d + 8) _ _) [.null, .ref w] hp _
    refine CtE.of (by decide) (EL.c1 rfl (EL.c1 rfl EL.n0)) (fun Γ h hq hnm hde => ?_)
    refine v_aload_nN (n' := 1) h dX1_collect_0 rfl rfl ?_
    refine v_ifnullZ (tgt := 26) h dX1_collect_1 rfl ?_
    refine v_vret h hq dX1_collect_26 (by omega) (by omega) (ret_v ?_)
    exact ⟨by simpa [tl] using hl, Frm.rf⟩
  | branch k l r ihl ihr =>
    intro hp xs hT hR hl hf hE hx d hd hd2
    obtain ⟨⟨he, hW, hk, hK⟩, hTl, hTr⟩ := HT.br.mp hT
    simp only [tz] at hd hx
    obtain ⟨d, rfl⟩ : ∃ e, d = e + 1 := ⟨d - 1, by omega⟩
    have el : tz (.branch k l r) = tz l + tz r + 1 := rfl
    rw [el]
    have m1 := acMM (m := xs.length) (n := xs.length + tz l) (by omega)
    have m2 := acMM (m := xs.length + tz l) (n := xs.length + tz l + 1) (by omega)
    have m3 := acMM (m := xs.length + tz l + 1) (n := xs.length + tz l + 1 + tz r) (by omega)
    have m4 : acC (xs.length + (tz l + tz r + 1)) = acC (xs.length + tz l + 1 + tz r) := by congr 1; omega
    have m5 : acS (xs.length + (tz l + tz r + 1)) = acS (xs.length + tz l + 1 + tz r) := by congr 1; omega
    have kl : ∀ x ∈ tl l, ¬ R (ad x) := fun x hx => hR x (mem_br.mpr (Or.inl hx))
    have kr : ∀ x ∈ tl r, ¬ R (ad x) := fun x hx => hR x (mem_br.mpr (Or.inr (Or.inr hx)))
    have kk : ¬ R (ad k) := hR k (mem_br.mpr (Or.inr (Or.inl rfl)))
    have n1 : (xs ++ (tl l).map ad).length = xs.length + tz l := by rw [List.length_append, List.length_map, tz_len]
    have n2 : ((xs ++ (tl l).map ad) ++ [ad k]).length = xs.length + tz l + 1 := by rw [List.length_append, n1]; rfl
    show CtE de yX1_collect cX1_collect 2 none (rmK (d + 1 + 8) _ _) [.ref (ad k), .ref w] hp _
    refine CtE.of (by decide) (EL.c1 rfl (EL.c1 rfl EL.n0)) (fun Γ h hq hnm hde => ?_)
    refine v_aload_n (n' := 1) h dX1_collect_0 rfl rfl ?_
    refine v_ifnullR (n' := 4) h dX1_collect_1 rfl ?_
    refine v_aload_n (n' := 5) h dX1_collect_4 rfl rfl ?_
    refine v_eleft (n' := 8) h q428 dX1_collect_5 rfl (by first | assumption | exact upH_s | exact (upH_n (by assumption)).trans (by assumption) | exact (upH_n (by assumption)).trans upH_s | exact (upH_n (by assumption)).trans ((upH_n (by assumption)).trans (by assumption))) (by omega) ?_
    refine v_aload_n (n' := 9) h dX1_collect_8 rfl rfl ?_
    refine vc_callS (n' := 12) h ((ihl hp xs hTl kl hl hf hE (by omega) d (by omega) (by omega)).d hde) (lw_S q596 q597 q83 q598) hdX1_collect ⟨by omega, by decide⟩ ⟨by omega, by omega⟩ (Nat.le_of_ble_eq_true rfl) dX1_collect_9 rfl (eV fun hp9 p9 => ?_) rfl
    obtain ⟨L9, F9⟩ := p9
    have he9 := F9.at he kk
    have E9 : EnR R hp9 (xs ++ (tl l).map ad) := by
      have q1 := hE.frm F9
      have q2 := (hTl.frm (fun x hx => F9 _ (kl x hx))).en (xs := tl l) (fun x hx => hx)
      refine ⟨fun y hy => ?_, fun y hy => ?_⟩
      · rcases List.mem_append.mp hy with hy | hy
        · exact q1.1 y hy
        · exact q2 y hy
      · rcases List.mem_append.mp hy with hy | hy
        · exact q1.2 y hy
        · obtain ⟨x, hx, rfl⟩ := List.mem_map.mp hy
          exact kl x hx
    obtain ⟨arr9, hw9⟩ := L9.len
    have c14 := c_add de hp9 R w (ad k) (K k).toNat _ _ L9 (by omega) E9.1 (F9.fre hf) (by omega) he9
    rw [n1] at c14
    refine v_aload_n (n' := 13) h dX1_collect_12 rfl rfl ?_
    refine v_aload_n (n' := 14) h dX1_collect_13 rfl rfl ?_
    refine vc_callV (n' := 17) (ci := 10) h ((c14).d hde) rfl (by first | assumption | exact upH_s | exact (upH_n (by assumption)).trans (by assumption) | exact (upH_n (by assumption)).trans upH_s | exact (upH_n (by assumption)).trans ((upH_n (by assumption)).trans (by assumption))) (lw_V q570 q483 q484 q86 q485) hdJ2_add ⟨by omega, by decide⟩ ⟨by omega, by omega⟩ (Nat.le_of_ble_eq_true rfl) dX1_collect_14 rfl (eI fun z14 hp14 p14 => ?_) rfl
    obtain ⟨-, L14, F14⟩ := p14
    have E14 : EnR R hp14 ((xs ++ (tl l).map ad) ++ [ad k]) := by
      have q1 := E9.frm F14
      refine ⟨fun y hy => ?_, fun y hy => ?_⟩
      · rcases List.mem_append.mp hy with hy | hy
        · exact q1.1 y hy
        · rw [List.mem_singleton.mp hy]
          exact ⟨_, _, by omega, F14.at he9 kk⟩
      · rcases List.mem_append.mp hy with hy | hy
        · exact q1.2 y hy
        · rw [List.mem_singleton.mp hy]
          exact kk
    have he14 := F14.at he9 kk
    have c23 := ihr hp14 _ (hTr.frm (fun x hx => (F9.tr F14) _ (kr x hx))) kr L14 ((F9.tr F14).fre hf) E14 (by omega) d (by omega) (by omega)
    rw [n2] at c23
    refine v_pop (n' := 18) h dX1_collect_17 rfl rfl ?_
    refine v_aload_n (n' := 19) h dX1_collect_18 rfl rfl ?_
    refine v_eright (n' := 22) h q430 dX1_collect_19 rfl (by first | assumption | exact upH_s | exact (upH_n (by assumption)).trans (by assumption) | exact (upH_n (by assumption)).trans upH_s | exact (upH_n (by assumption)).trans ((upH_n (by assumption)).trans (by assumption))) (by omega) ?_
    refine v_aload_n (n' := 23) h dX1_collect_22 rfl rfl ?_
    refine vc_callS (n' := 26) h ((c23).d hde) (lw_S q596 q597 q83 q598) hdX1_collect ⟨by omega, by decide⟩ ⟨by omega, by omega⟩ (Nat.le_of_ble_eq_true rfl) dX1_collect_23 rfl (eV fun hp23 p23 => ?_) rfl
    obtain ⟨L23, F23⟩ := p23
    refine v_vret h hq dX1_collect_26 (by omega) (by omega) (ret_v ?_)
    exact ⟨by rw [tl_br, List.map_append, List.map_cons, ← List.append_assoc]; rw [List.append_assoc, List.append_assoc] at L23; rw [List.append_assoc]; exact L23, (F9.tr F14).tr F23⟩
theorem Ls.cell {hp hp' : AH} {R : Nat → Prop} {de w : Nat} {xs : List Nat} (h : Ls hp R de w xs) (e : ∀ q c, hp q = some c → (∀ (kd : Nat) (fs : List Value), kd < 5 → c ≠ .inr (5 + kd, fs)) → hp' q = some c) : Ls hp' R de w xs := by
  obtain ⟨arr, h1, h2, h3⟩ := h
  refine ⟨arr, e _ _ h1 (fun kd fs hk z => by have := congrArg Prod.fst (Sum.inr.inj z); simp at this; omega), h2, h3.imp id (fun q => ⟨q.1, q.2.1, e _ _ q.2.2 (fun kd fs hk z => by cases z)⟩)⟩
theorem c_flat (de : Nat) (R W : Nat → Prop) (ad : Nat → Nat) (K U : Nat → Int) (w : Nat) (xs : List Nat) (wf : Nat → Nat) (hxs : ∀ i, i < xs.length → xs[i]? = some (ad (wf i))) (hx : xs.length ≤ 48) (hinj : ∀ i j, i < xs.length → j < xs.length → ad (wf i) = ad (wf j) → i = j) (hw : ∀ i, i < xs.length → W (ad (wf i)) ∧ wf i < 100 ∧ 0 ≤ K (wf i) ∧ K (wf i) ≤ 4) :
    ∀ (F n lo : Nat) (hp : AH), n ≤ F → lo + n ≤ xs.length → Ls hp R de w xs → (∀ i, i < xs.length → ∃ l r, hp (ad (wf i)) = some (eO (K (wf i)).toNat (wf i) (U (wf i)) l r)) →
    CtE de yX1_flat cX1_flat 4 (some (.object "CreditShelf$Entry")) (rmK (F + 4) 0 0) [.ref w, .int (iI lo), .int (iI ((lo : Int) + n - 1))] hp (rQ (fun o hp' => o = (ro (fl F wf lo n)).map ad ∧ HT hp' W ad K U (fl F wf lo n) ∧ ∀ q, (∀ i, lo ≤ i → i < lo + n → q ≠ ad (wf i)) → hp' q = hp q)) := by
  intro F
  induction F with
  | zero =>
    intro n lo hp hn hlo hl he
    obtain rfl : n = 0 := by omega
    refine CtE.of (by decide) (EL.c1 rfl (EL.c1 rfl (EL.c1 rfl (EL.nn EL.n0)))) (fun Γ h hq hnm hde => ?_)
    refine v_iload_n (n' := 1) h dX1_flat_0 rfl rfl ?_
    refine v_iload_n (n' := 2) h dX1_flat_1 rfl rfl ?_
    refine v_icmp_le (n' := 5) (tgt := 7) h dX1_flat_2 rfl rfl (by omega) (by omega) (fun c2 => ?_) (fun c2 => ?_)
    · omega
    · refine v_null (n' := 6) h dX1_flat_5 rfl ?_
      refine v_aret h hq dX1_flat_6 (Or.inl ⟨_, rfl⟩) (Or.inl rfl) (by omega) (by omega) (ret_qn ?_)
      exact ⟨rfl, trivial, fun _ _ => rfl⟩
  | succ F ih =>
    intro n lo hp hn hlo hl he
    by_cases h0 : n = 0
    · subst h0
      have e0 : fl (F + 1) wf lo 0 = .leaf () := by unfold fl; rw [if_pos rfl]
      rw [e0]
      refine CtE.of (by decide) (EL.c1 rfl (EL.c1 rfl (EL.c1 rfl (EL.nn EL.n0)))) (fun Γ h hq hnm hde => ?_)
      refine v_iload_n (n' := 1) h dX1_flat_0 rfl rfl ?_
      refine v_iload_n (n' := 2) h dX1_flat_1 rfl rfl ?_
      refine v_icmp_le (n' := 5) (tgt := 7) h dX1_flat_2 rfl rfl (by omega) (by omega) (fun c2 => ?_) (fun c2 => ?_)
      · omega
      · refine v_null (n' := 6) h dX1_flat_5 rfl ?_
        refine v_aret h hq dX1_flat_6 (Or.inl ⟨_, rfl⟩) (Or.inl rfl) (by omega) (by omega) (ret_qn ?_)
        exact ⟨rfl, trivial, fun _ _ => rfl⟩
    have e0 : fl (F + 1) wf lo n = .branch (wf (lo + (n - 1) / 2)) (fl F wf lo ((n - 1) / 2)) (fl F wf (lo + (n - 1) / 2 + 1) (n - 1 - (n - 1) / 2)) := by
      conv => lhs; unfold fl
      rw [if_neg h0]
    rw [e0]
    have hmid : ((lo : Int) + ((lo : Int) + n - 1)) / 2 = ((lo + (n - 1) / 2 : Nat) : Int) := by omega
    generalize hM : (n - 1) / 2 = M at hmid ⊢
    have hM1 : M < n := by omega
    have hr1 : ((lo + M : Nat) : Int) - 1 = (lo : Int) + (M : Nat) - 1 := by omega
    have hr2 : ((lo + M : Nat) : Int) + 1 = ((lo + M + 1 : Nat) : Int) := by omega
    have hr3 : (lo : Int) + n - 1 = ((lo + M + 1 : Nat) : Int) + ((n - 1 - M : Nat) : Int) - 1 := by omega
    obtain ⟨l0, r0, hc⟩ := he (lo + M) (by omega)
    obtain ⟨w1, w2, w3, w4⟩ := hw (lo + M) (by omega)
    have hget := hxs (lo + M) (by omega)
    obtain ⟨arr, hlw⟩ := hl.len
    refine CtE.of (by decide) (EL.c1 rfl (EL.c1 rfl (EL.c1 rfl (EL.nn EL.n0)))) (fun Γ h hq hnm hde => ?_)
    refine v_iload_n (n' := 1) h dX1_flat_0 rfl rfl ?_
    refine v_iload_n (n' := 2) h dX1_flat_1 rfl rfl ?_
    refine v_icmp_le (n' := 5) (tgt := 7) h dX1_flat_2 rfl rfl (by omega) (by omega) (fun c2 => ?_) (fun c2 => ?_)
    · refine v_aload_n (n' := 8) h dX1_flat_7 rfl rfl ?_
      refine v_iload_n (n' := 9) h dX1_flat_8 rfl rfl ?_
      refine v_iload_n (n' := 10) h dX1_flat_9 rfl rfl ?_
      refine v_iadd (n' := 11) h dX1_flat_10 rfl ?_
      refine v_iconst (n' := 12) h dX1_flat_11 rfl ?_
      refine v_idiv (n' := 13) h dX1_flat_12 rfl (by omega) (by omega) ?_
      rw [hmid]
      refine vc_callV (n' := 16) (ci := 10) h ((c_get de hp R w xs (lo + M) _ hl hget (by omega)).d hde) rfl (by first | assumption | exact upH_s | exact (upH_n (by assumption)).trans (by assumption) | exact (upH_n (by assumption)).trans upH_s | exact (upH_n (by assumption)).trans ((upH_n (by assumption)).trans (by assumption))) (lw_V q572 q398 q399 q86 q400) hdJ2_get ⟨by omega, by decide⟩ ⟨by omega, by omega⟩ (Nat.le_of_ble_eq_true rfl) dX1_flat_13 rfl (eR fun z13 hp13 p13 => ?_) rfl
      obtain ⟨ez13, fz13⟩ := p13
      have ez13 := ez13.symm
      have fz13 := fz13.symm
      subst ez13 fz13
      refine v_castE (n' := 19) h q573 dX1_flat_16 rfl (by first | assumption | exact upH_s | exact (upH_n (by assumption)).trans (by assumption) | exact (upH_n (by assumption)).trans upH_s | exact (upH_n (by assumption)).trans ((upH_n (by assumption)).trans (by assumption))) (by omega) ?_
      refine v_astore3 (n' := 20) h dX1_flat_19 rfl rfl ?_
      refine v_aload_n (n' := 21) h dX1_flat_20 rfl rfl ?_
      refine v_aload_n (n' := 22) h dX1_flat_21 rfl rfl ?_
      refine v_iload_n (n' := 23) h dX1_flat_22 rfl rfl ?_
      refine v_iload_n (n' := 24) h dX1_flat_23 rfl rfl ?_
      refine v_iload_n (n' := 25) h dX1_flat_24 rfl rfl ?_
      refine v_iadd (n' := 26) h dX1_flat_25 rfl ?_
      refine v_iconst (n' := 27) h dX1_flat_26 rfl ?_
      refine v_idiv (n' := 28) h dX1_flat_27 rfl (by omega) (by omega) ?_
      rw [hmid]
      refine v_iconst (n' := 29) h dX1_flat_28 rfl ?_
      refine v_isub (n' := 30) h dX1_flat_29 rfl ?_
      rw [hr1]
      refine vc_callS (n' := 33) h ((ih M lo hp (by omega) (by omega) hl he).d hde) (lw_S q599 q600 q83 q601) hdX1_flat ⟨by omega, by decide⟩ ⟨by omega, by omega⟩ (Nat.le_of_ble_eq_true rfl) dX1_flat_30 rfl (eQ fun z30 hp30 p30 => ?_) rfl
      obtain ⟨e30, T30, F30⟩ := p30
      subst e30
      have h30 : hp30 (ad (wf (lo + M))) = some (eO (K (wf (lo + M))).toNat (wf (lo + M)) (U (wf (lo + M))) l0 r0) := (F30 _ (fun i i1 i2 z => by have := hinj _ _ (by omega) (by omega) z; omega)).trans hc
      have nonE : ∀ q c, hp q = some c → (∀ (kd : Nat) (fs : List Value), kd < 5 → c ≠ .inr (5 + kd, fs)) → ∀ i, i < xs.length → q ≠ ad (wf i) := by
        intro q c hq hc i hi z
        obtain ⟨l1, r1, h1⟩ := he i hi
        obtain ⟨-, -, v3, v4⟩ := hw i hi
        rw [z, h1] at hq
        exact hc (K (wf i)).toNat _ (by omega) (Option.some.inj hq).symm
      refine v_pleft (n' := 36) h q428 dX1_flat_33 rfl (by first | assumption | exact upH_s | exact (upH_n (by assumption)).trans (by assumption) | exact (upH_n (by assumption)).trans upH_s | exact (upH_n (by assumption)).trans ((upH_n (by assumption)).trans (by assumption))) (by omega) ?_
      refine v_aload_n (n' := 37) h dX1_flat_36 rfl rfl ?_
      refine v_aload_n (n' := 38) h dX1_flat_37 rfl rfl ?_
      refine v_iload_n (n' := 39) h dX1_flat_38 rfl rfl ?_
      refine v_iload_n (n' := 40) h dX1_flat_39 rfl rfl ?_
      refine v_iadd (n' := 41) h dX1_flat_40 rfl ?_
      refine v_iconst (n' := 42) h dX1_flat_41 rfl ?_
      refine v_idiv (n' := 43) h dX1_flat_42 rfl (by omega) (by omega) ?_
      rw [hmid]
      refine v_iconst (n' := 44) h dX1_flat_43 rfl ?_
      refine v_iadd (n' := 45) h dX1_flat_44 rfl ?_
      refine v_iload_n (n' := 46) h dX1_flat_45 rfl rfl ?_
      rw [hr2]
      have c46 := ih (n - 1 - M) (lo + M + 1) (upH hp30 (ad (wf (lo + M))) (eO (K (wf (lo + M))).toNat (wf (lo + M)) (U (wf (lo + M))) ((ro (fl F wf lo M)).map ad) r0)) (by omega) (by omega) (hl.cell (fun q c h1 h2 => (upH_n (nonE q c h1 h2 (lo + M) (by omega))).trans ((F30 q (fun i _ _ => nonE q c h1 h2 i (by omega))).trans h1))) (fun i hi => by
        by_cases ci : i = lo + M
        · rw [ci]; exact ⟨_, _, upH_s⟩
        · have hne : ad (wf i) ≠ ad (wf (lo + M)) := fun z => ci (hinj _ _ hi (by omega) z)
          by_cases cr : lo ≤ i ∧ i < lo + M
          · have hm : wf i ∈ tl (fl F wf lo M) := by
              rw [fl_tl _ _ _ _ (by omega)]
              exact List.mem_map.mpr ⟨i - lo, List.mem_range.mpr (by omega), by congr 1; omega⟩
            obtain ⟨l1, r1, q1, -⟩ := T30.at hm
            exact ⟨l1, r1, (upH_n hne).trans q1⟩
          · obtain ⟨l1, r1, q1⟩ := he i hi
            exact ⟨l1, r1, (upH_n hne).trans ((F30 _ (fun j j1 j2 z => by have := hinj _ _ hi (by omega) z; omega)).trans q1)⟩)
      rw [← hr3] at c46
      refine vc_callS (n' := 49) h ((c46).d hde) (lw_S q599 q600 q83 q601) hdX1_flat ⟨by omega, by decide⟩ ⟨by omega, by omega⟩ (Nat.le_of_ble_eq_true rfl) dX1_flat_46 rfl (eQ fun z46 hp46 p46 => ?_) rfl
      obtain ⟨e46, T46, F46⟩ := p46
      subst e46
      have h46 : hp46 (ad (wf (lo + M))) = some (eO (K (wf (lo + M))).toNat (wf (lo + M)) (U (wf (lo + M))) ((ro (fl F wf lo M)).map ad) r0) := (F46 _ (fun i i1 i2 z => by have := hinj _ _ (by omega) (by omega) z; omega)).trans upH_s
      refine v_pright (n' := 52) h q430 dX1_flat_49 rfl (by first | assumption | exact upH_s | exact (upH_n (by assumption)).trans (by assumption) | exact (upH_n (by assumption)).trans upH_s | exact (upH_n (by assumption)).trans ((upH_n (by assumption)).trans (by assumption))) (by omega) ?_
      refine v_aload_n (n' := 53) h dX1_flat_52 rfl rfl ?_
      refine v_aret h hq dX1_flat_53 (Or.inl ⟨_, rfl⟩) (Or.inr ⟨_, rfl⟩) (by omega) (by omega) (ret_qs ?_)
      refine ⟨rfl, HT.br.mpr ⟨⟨upH_s, w1, w2, w3, w4⟩, ?_, ?_⟩, ?_⟩
      · refine T30.frm (fun x hx => ?_)
        rw [fl_tl _ _ _ _ (by omega)] at hx
        obtain ⟨i, hi, rfl⟩ := List.mem_map.mp hx
        have hi := List.mem_range.mp hi
        have hne : ad (wf (lo + i)) ≠ ad (wf (lo + M)) := fun z => by have := hinj _ _ (by omega) (by omega) z; omega
        rw [upH_n hne, F46 _ (fun j j1 j2 z => by have := hinj _ _ (by omega) (by omega) z; omega), upH_n hne]
      · refine T46.frm (fun x hx => ?_)
        rw [fl_tl _ _ _ _ (by omega)] at hx
        obtain ⟨i, hi, rfl⟩ := List.mem_map.mp hx
        have hi := List.mem_range.mp hi
        exact upH_n (fun z => by have := hinj _ _ (by omega) (by omega) z; omega)
      · intro q hq
        have hne : q ≠ ad (wf (lo + M)) := hq (lo + M) (by omega) (by omega)
        rw [upH_n hne, F46 q (fun i i1 i2 => hq i (by omega) (by omega)), upH_n hne, F30 q (fun i i1 i2 => hq i (by omega) (by omega))]
    · omega
