/-! THE CLASS: its start -/
set_option maxRecDepth 100000
def CLs (hp : AH) (ax : Nat) (l : List (Nat × va_E)) : Prop := (∀ p ∈ l, hp p.1 = some p.2 ∧ p.1 ≠ ax) ∧ (l.map Prod.fst).Nodup
theorem CLs.new {hp : AH} {ax a : Nat} {l : List (Nat × va_E)} {e ex : va_E} (h : CLs hp ax l) (ha : hp a = none) (hx : hp ax = some ex) : CLs (upH hp a e) ax ((a, e) :: l) := by
  refine ⟨fun p hp1 => ?_, ?_⟩
  · rcases List.mem_cons.mp hp1 with rfl | hp1
    · exact ⟨upH_s, (free_ne hx ha).symm⟩
    · exact ⟨(upH_n (free_ne (h.1 p hp1).1 ha)).trans (h.1 p hp1).1, (h.1 p hp1).2⟩
  · rw [List.map_cons, List.nodup_cons]
    refine ⟨fun z => ?_, h.2⟩
    obtain ⟨p, hp1, e1⟩ := List.mem_map.mp z
    exact free_ne (h.1 p hp1).1 ha e1
theorem CLs.put {hp : AH} {ax : Nat} {l : List (Nat × va_E)} {e : va_E} (h : CLs hp ax l) : CLs (upH hp ax e) ax l := ⟨fun p hp1 => ⟨(upH_n (h.1 p hp1).2).trans (h.1 p hp1).1, (h.1 p hp1).2⟩, h.2⟩
abbrev zA (t N : Nat) : va_E := .inl (t, N, .inl (fun _ => 0))
section XI
variable {Γ : GX} {k n : Nat} {hp : AH} {pc : Nat} {L : List (Option Value)} {cc : ByteArray} {ret : Option FieldType} {l' c' s' : Nat}
theorem xi_arr (h : Ok0 cc RX0 ret (rmK l' c' s') Γ) (hnm : (gMt Γ).name = "<init>") {ax i : Nat} {fs : List Value} {l : List (Nat × va_E)} {atype : ArrayType} {ty : FieldType} {t N : Nat} (f : Nat) (hty : newarray.typeOf atype = ty) (hw : Cond.arrayClass ty ∈ lw_all) (ht : (TYS (gD Γ).2.1)[t]? = some ((gD Γ).2.1 t, ty)) (hdv : defaultValue ty = .int 0) (hb : componentBytes ty ≤ 8) (hra : ∀ cA : ClassId, va_RA (gS Γ) cA ty → (gS Γ).vm.findClass ("[" ++ ty.toString) = some cA)
    (d1 : decode cc pc = .ok (.newarray atype, 2)) (d2 : decode cc (pc + 2) = .ok (.putfield i, 3)) (hN : N ≤ 60) (hk : k + 1 ≤ c') (hs : n + N ≤ s') (hf : f < 20) (hfl : Cond.fieldLink RX0 i RX0 (TX0 f).2.1 (TX0 f).2.2.1 ∈ lw_all) (h1 : RX0 = (TX0 f).1) (hfin : (TX0 f).2.2.2 = true) (htr : ∃ e, tyX0 f = .array e)
    (hx : hp ax = some (.inr (0, fs))) (hlen : fs.length = 20) (hl : CLs hp ax l)
    (kk : ∀ (a : Nat) (hp' : AH), hp' ax = some (.inr (0, fs.set f (.ref a))) → CLs hp' ax ((a, zA t N) :: l) → (fs.set f (.ref a)).length = 20 → V Γ (k + 1) (n + N) hp' (pc + 5) L []) : V Γ k n hp pc L [.int (iI (N : Int)), .ref ax] := by
  refine v_newa (n' := pc + 2) h hty hw ht hdv hb hra d1 rfl (by omega) (rmC hk) (rmS (by rw [Int.toNat_natCast]; exact hs)) (fun a ha => ?_)
  rw [Int.toNat_natCast]
  obtain ⟨e, he⟩ := htr
  refine v_putF (n' := pc + 5) (ci := 0) (a := ax) h rfl in_X0 tyX0 tyX0_ok nmX0 f hf hfl h1 hfin hnm h1.symm d2 (by omega) ((upH_n (free_ne hx ha)).trans hx) (by rw [hlen]; exact hf) (by rw [he]; rfl) (by rw [he]; rfl) ?_
  exact kk a _ upH_s (hl.new ha hx).put (by rw [List.length_set]; exact hlen)
end XI
theorem xL_cases {i : Nat} (h : xLen i ≠ 0) : i = 2 ∨ i = 4 ∨ i = 7 ∨ i = 8 ∨ i = 9 ∨ i = 16 ∨ i = 17 ∨ i = 18 ∨ i = 19 := by
  unfold xLen at h
  split at h <;> first | omega | exact absurd rfl h
theorem zA_ok (i t N : Nat) (ht : xTag i = t) (hN : xLen i = N) : some (zA t N) = some (xA sI0 i) := by
  subst ht hN
  show some (Sum.inl (xTag i, xLen i, Sum.inl (fun _ => (0 : Int32)))) = some (Sum.inl (xTag i, xLen i, Sum.inl (fun j : Nat => iI (0 : Int))))
  rw [iI_0]
def posA (i : Nat) : Nat := if i = 2 then 0 else if i = 4 then 1 else if i = 7 then 2 else if i = 8 then 3 else if i = 9 then 4 else if i = 16 then 5 else if i = 17 then 6 else if i = 18 then 7 else if i = 19 then 8 else 9
def posB (i : Nat) : Nat := if i = 0 then 2 else if i = 1 then 4 else if i = 2 then 7 else if i = 3 then 8 else if i = 4 then 9 else if i = 5 then 16 else if i = 6 then 17 else if i = 7 then 18 else if i = 8 then 19 else 0
theorem posBA {i : Nat} (h : xLen i ≠ 0) : posB (posA i) = i := by
  rcases xL_cases h with rfl | rfl | rfl | rfl | rfl | rfl | rfl | rfl | rfl <;> rfl
theorem A_inj {b2 b4 b7 b8 b9 b16 b17 b18 b19 a56 : Nat} (h : [b2, b4, b7, b8, b9, b16, b17, b18, b19].Nodup) (i j : Nat) (hi : xLen i ≠ 0) (hj : xLen j ≠ 0) (e : (fun i => if i = 2 then b2 else if i = 4 then b4 else if i = 7 then b7 else if i = 8 then b8 else if i = 9 then b9 else if i = 16 then b16 else if i = 17 then b17 else if i = 18 then b18 else if i = 19 then b19 else a56) i = (fun i => if i = 2 then b2 else if i = 4 then b4 else if i = 7 then b7 else if i = 8 then b8 else if i = 9 then b9 else if i = 16 then b16 else if i = 17 then b17 else if i = 18 then b18 else if i = 19 then b19 else a56) j) : i = j := by
  have key : ∀ i, xLen i ≠ 0 → [b2, b4, b7, b8, b9, b16, b17, b18, b19][posA i]? = some ((fun i => if i = 2 then b2 else if i = 4 then b4 else if i = 7 then b7 else if i = 8 then b8 else if i = 9 then b9 else if i = 16 then b16 else if i = 17 then b17 else if i = 18 then b18 else if i = 19 then b19 else a56) i) := by
    intro i hi
    rcases xL_cases hi with rfl | rfl | rfl | rfl | rfl | rfl | rfl | rfl | rfl <;> rfl
  have lt : posA i < [b2, b4, b7, b8, b9, b16, b17, b18, b19].length := (List.getElem?_eq_some_iff.mp (key i hi)).1
  have q := (List.getElem?_inj lt h).mp ((key i hi).trans ((congrArg some e).trans (key j hj).symm))
  rw [← posBA hi, ← posBA hj, q]
def dvX0 : List Value := [.null, .int (iI 0), .null, .int (iI 0), .null, .int (iI 0), .int (iI 0), .null, .null, .null, .null, .long (lI 0), .null, .int (iI 0), .int (iI 0), .int (iI 0), .null, .null, .null, .null]
theorem dvX0_ok : ∀ j, j < 20 → defaultValue (tyX0 j) = vp_V dvX0 j := by decide +kernel
theorem k_init (de : Nat) (hp : AH) (ax : Nat) (hx : hp ax = some (.inr (0, dvX0))) : CtE de yX0_init cX0_init 1 none (rmK 5 12 300) [.ref ax] hp (rV (fun hp' => CRel de hp' ax ss0)) := by
  refine CtE.of (by decide) (EL.c1 rfl EL.n0) (fun Γ h hq hnm hde => ?_)
  have hl0 : CLs hp ax [] := ⟨fun p hp1 => absurd hp1 List.not_mem_nil, List.nodup_nil⟩
  have hln : dvX0.length = 20 := rfl
  refine v_aload_n (n' := 1) h dX0_init_0 rfl rfl ?_
  refine v_objInit (n' := 4) h q109 q110 q111 dX0_init_1 rfl (rm1 (by omega)) (Nat.le_of_ble_eq_true rfl) ?_
  refine v_aload_n (n' := 5) h dX0_init_4 rfl rfl ?_
  refine v_new (n' := 8) (ci := 1) h rfl in_X1 tyX1 tyX1_ok q112 q113 q83 (fs := dvX1) dvX1_ok dX0_init_5 rfl (rmC (by omega)) (rmS (by omega)) (fun a5 n5 => ?_)
  refine v_dup (n' := 9) h dX0_init_8 rfl rfl ?_
  refine vc_callIN (n' := 12) h ((c_tinit de _ a5).d hde) q116 q83 q114 q115 rfl hdX1_init ⟨by omega, by decide⟩ ⟨by omega, by omega⟩ (Nat.le_of_ble_eq_true rfl) dX0_init_9 rfl (eV fun hp9 p9 => ?_) rfl
  have p9 := p9.symm
  subst p9
  have nx5 : ax ≠ a5 := free_ne hx n5
  have hl1 := (hl0.new (e := .inr (1, dvX1)) n5 hx)
  refine v_put (n' := 15) (ci := 0) h rfl in_X0 tyX0 tyX0_ok nmX0 0 (by decide) q188 rfl rfl dX0_init_12 rfl (by first | assumption | exact upH_s | exact (upH_n (by assumption)).trans (by assumption) | exact (upH_n (by assumption)).trans upH_s | exact (upH_n (by assumption)).trans ((upH_n (by assumption)).trans (by assumption))) (by show 0 < 20; decide) rfl rfl ?_
  generalize hG : upH (upH hp a5 (.inr (1, dvX1))) ax (.inr (0, dvX0.set 0 (.ref a5))) = hq1
  have hx1 : hq1 ax = some (.inr (0, dvX0.set 0 (.ref a5))) := by rw [← hG]; exact upH_s
  have hl2 : CLs hq1 ax [(a5, .inr (1, dvX1))] := by rw [← hG]; exact hl1.put
  have hn1 : (dvX0.set 0 (.ref a5)).length = 20 := rfl
  refine v_aload_n (n' := 16) h dX0_init_15 rfl rfl ?_
  refine v_bipush (n' := 18) h dX0_init_16 rfl (by decide) ?_
  refine xi_arr (N := 54) (t := 1) (ty := .byte) h hnm 2 rfl q185 rfl rfl (by decide) (fun cA z => z) dX0_init_18 dX0_init_20 (by decide) (by omega) (by omega) (by decide) q191 (by decide +kernel) (by decide +kernel) ⟨_, rfl⟩ hx1 hn1 hl2 (fun b2 hp2 hx2 hl2 hn2 => ?_)
  refine v_aload_n (n' := 24) h dX0_init_23 rfl rfl ?_
  refine v_bipush (n' := 26) h dX0_init_24 rfl (by decide) ?_
  refine xi_arr (N := 60) (t := 0) (ty := .int) h hnm 4 rfl q186 rfl rfl (by decide) (fun cA z => z) dX0_init_26 dX0_init_28 (by decide) (by omega) (by omega) (by decide) q194 (by decide +kernel) (by decide +kernel) ⟨_, rfl⟩ hx2 hn2 hl2 (fun b4 hp4 hx4 hl4 hn4 => ?_)
  refine v_aload_n (n' := 32) h dX0_init_31 rfl rfl ?_
  refine v_bipush (n' := 34) h dX0_init_32 rfl (by decide) ?_
  refine xi_arr (N := 6) (t := 0) (ty := .int) h hnm 7 rfl q186 rfl rfl (by decide) (fun cA z => z) dX0_init_34 dX0_init_36 (by decide) (by omega) (by omega) (by decide) q197 (by decide +kernel) (by decide +kernel) ⟨_, rfl⟩ hx4 hn4 hl4 (fun b7 hp7 hx7 hl7 hn7 => ?_)
  refine v_aload_n (n' := 40) h dX0_init_39 rfl rfl ?_
  refine v_bipush (n' := 42) h dX0_init_40 rfl (by decide) ?_
  refine xi_arr (N := 6) (t := 0) (ty := .int) h hnm 8 rfl q186 rfl rfl (by decide) (fun cA z => z) dX0_init_42 dX0_init_44 (by decide) (by omega) (by omega) (by decide) q198 (by decide +kernel) (by decide +kernel) ⟨_, rfl⟩ hx7 hn7 hl7 (fun b8 hp8 hx8 hl8 hn8 => ?_)
  refine v_aload_n (n' := 48) h dX0_init_47 rfl rfl ?_
  refine v_bipush (n' := 50) h dX0_init_48 rfl (by decide) ?_
  refine xi_arr (N := 6) (t := 2) (ty := .boolean) h hnm 9 rfl q187 rfl rfl (by decide) (fun cA z => z) dX0_init_50 dX0_init_52 (by decide) (by omega) (by omega) (by decide) q199 (by decide +kernel) (by decide +kernel) ⟨_, rfl⟩ hx8 hn8 hl8 (fun b9 hp9 hx9 hl9 hn9 => ?_)
  refine v_aload_n (n' := 56) h dX0_init_55 rfl rfl ?_
  refine v_new (n' := 59) (ci := 10) h rfl in_J2 tyJ2 tyJ2_ok q159 q160 q86 (fs := dvJ2) dvJ2_ok dX0_init_56 rfl (rmC (by omega)) (rmS (by omega)) (fun a56 n56 => ?_)
  refine v_dup (n' := 60) h dX0_init_59 rfl rfl ?_
  refine vc_callI (n' := 63) h ((c_linit de _ a56 upH_s).d hde) q163 q86 q161 q162 rfl hdJ2_init ⟨by omega, by decide⟩ ⟨by omega, by omega⟩ (Nat.le_of_ble_eq_true rfl) dX0_init_60 rfl (eV fun hp60 p60 => ?_) rfl
  have p60 := p60
  subst p60
  rw [upH_up]
  have nx56 : ax ≠ a56 := free_ne hx9 n56
  have hl56 := (hl9.new (e := lO 0 0 de) n56 hx9)
  refine v_putF (n' := 66) (ci := 0) h rfl in_X0 tyX0 tyX0_ok nmX0 10 (by decide) q200 rfl rfl (hnm.trans rfl) rfl dX0_init_63 rfl (by first | assumption | exact upH_s | exact (upH_n (by assumption)).trans (by assumption) | exact (upH_n (by assumption)).trans upH_s | exact (upH_n (by assumption)).trans ((upH_n (by assumption)).trans (by assumption))) (by show 10 < 20; decide) rfl rfl ?_
  generalize hG2 : upH (upH hp9 a56 (lO 0 0 de)) ax _ = hq10
  have hx10 : hq10 ax = some (.inr (0, ((((((dvX0.set 0 (Value.ref a5)).set 2 (Value.ref b2)).set 4 (Value.ref b4)).set 7 (Value.ref b7)).set 8 (Value.ref b8)).set 9 (Value.ref b9)).set 10 (Value.ref a56))) := by rw [← hG2]; exact upH_s
  have hl10 : CLs hq10 ax [(a56, lO 0 0 de), (b9, zA 2 6), (b8, zA 0 6), (b7, zA 0 6), (b4, zA 0 60), (b2, zA 1 54), (a5, .inr (1, dvX1))] := by rw [← hG2]; exact hl56.put
  have hn10 : (((((((dvX0.set 0 (Value.ref a5)).set 2 (Value.ref b2)).set 4 (Value.ref b4)).set 7 (Value.ref b7)).set 8 (Value.ref b8)).set 9 (Value.ref b9)).set 10 (Value.ref a56)).length = 20 := by rw [List.length_set]; exact hn9
  refine v_aload_n (n' := 67) h dX0_init_66 rfl rfl ?_
  refine v_bipush (n' := 69) h dX0_init_67 rfl (by decide) ?_
  refine xi_arr (N := 60) (t := 0) (ty := .int) h hnm 16 rfl q186 rfl rfl (by decide) (fun cA z => z) dX0_init_69 dX0_init_71 (by decide) (by omega) (by omega) (by decide) q206 (by decide +kernel) (by decide +kernel) ⟨_, rfl⟩ hx10 hn10 hl10 (fun b16 hp16 hx16 hl16 hn16 => ?_)
  refine v_aload_n (n' := 75) h dX0_init_74 rfl rfl ?_
  refine v_bipush (n' := 77) h dX0_init_75 rfl (by decide) ?_
  refine xi_arr (N := 6) (t := 0) (ty := .int) h hnm 17 rfl q186 rfl rfl (by decide) (fun cA z => z) dX0_init_77 dX0_init_79 (by decide) (by omega) (by omega) (by decide) q207 (by decide +kernel) (by decide +kernel) ⟨_, rfl⟩ hx16 hn16 hl16 (fun b17 hp17 hx17 hl17 hn17 => ?_)
  refine v_aload_n (n' := 83) h dX0_init_82 rfl rfl ?_
  refine v_bipush (n' := 85) h dX0_init_83 rfl (by decide) ?_
  refine xi_arr (N := 6) (t := 0) (ty := .int) h hnm 18 rfl q186 rfl rfl (by decide) (fun cA z => z) dX0_init_85 dX0_init_87 (by decide) (by omega) (by omega) (by decide) q208 (by decide +kernel) (by decide +kernel) ⟨_, rfl⟩ hx17 hn17 hl17 (fun b18 hp18 hx18 hl18 hn18 => ?_)
  refine v_aload_n (n' := 91) h dX0_init_90 rfl rfl ?_
  refine v_bipush (n' := 93) h dX0_init_91 rfl (by decide) ?_
  refine xi_arr (N := 6) (t := 2) (ty := .boolean) h hnm 19 rfl q187 rfl rfl (by decide) (fun cA z => z) dX0_init_93 dX0_init_95 (by decide) (by omega) (by omega) (by decide) q209 (by decide +kernel) (by decide +kernel) ⟨_, rfl⟩ hx18 hn18 hl18 (fun b19 hp19 hx19 hl19 hn19 => ?_)
  refine v_vret h hq dX0_init_98 (by omega) (by omega) (ret_v ?_)
  have nd0 : [b19, b18, b17, b16, a56, b9, b8, b7, b4, b2, a5].Nodup := hl19.2
  have nd1 : [b19, b18, b17, b16, b9, b8, b7, b4, b2].Nodup := nd0.sublist (.cons₂ _ (.cons₂ _ (.cons₂ _ (.cons₂ _ (.cons _ (.cons₂ _ (.cons₂ _ (.cons₂ _ (.cons₂ _ (.cons₂ _ (.cons _ .slnil)))))))))))
  have nd2 : [b2, b4, b7, b8, b9, b16, b17, b18, b19].Nodup := (List.pairwise_reverse.mp (show (List.reverse [b2, b4, b7, b8, b9, b16, b17, b18, b19]).Pairwise (· ≠ ·) from nd1)).imp (fun h => Ne.symm h)
  have f2 := (hl19.1 (b2, zA 1 54) (by simp)).1
  have f4 := (hl19.1 (b4, zA 0 60) (by simp)).1
  have f7 := (hl19.1 (b7, zA 0 6) (by simp)).1
  have f8 := (hl19.1 (b8, zA 0 6) (by simp)).1
  have f9 := (hl19.1 (b9, zA 2 6) (by simp)).1
  have f16 := (hl19.1 (b16, zA 0 60) (by simp)).1
  have f17 := (hl19.1 (b17, zA 0 6) (by simp)).1
  have f18 := (hl19.1 (b18, zA 0 6) (by simp)).1
  have f19 := (hl19.1 (b19, zA 2 6) (by simp)).1
  have f56 := (hl19.1 (a56, lO 0 0 de) (by simp)).1
  have f5 := (hl19.1 (a5, .inr (1, dvX1)) (by simp)).1
  have nW : ∀ q e, hp19 q = some e → e ≠ .inr (1, dvX1) → ¬ (q = a5 ∨ hp19 q = none) := fun q e hq he c => by
    rcases c with c | c
    · rw [c, f5] at hq; exact he (Option.some.inj hq).symm
    · rw [hq] at c; cases c
  refine ⟨fun q => q = a5 ∨ hp19 q = none, fun i => if i = 2 then b2 else if i = 4 then b4 else if i = 7 then b7 else if i = 8 then b8 else if i = 9 then b9 else if i = 16 then b16 else if i = 17 then b17 else if i = 18 then b18 else if i = 19 then b19 else a56, a5, none, sI0, fun _ => 0, ⟨⟨hx19, nW _ _ hx19 (fun z => by have := congrArg Prod.fst (Sum.inr.inj z); simp at this), fun i hi => ?_, fun i j hi hj e => ?_⟩, fun q hq => Or.inr hq, ⟨f5, Or.inl rfl, trivial⟩, ⟨[], ⟨de, f56, nW _ _ f56 (fun z => by have := congrArg Prod.fst (Sum.inr.inj z); simp at this), Or.inl ⟨rfl, rfl⟩⟩, by decide, fun i y hy => by simp at hy⟩, Or.inl ⟨rfl, rfl⟩⟩, rfl, rfl, fun i _ _ => rfl, ⟨rfl, by decide, fun i hi => absurd hi (Nat.not_lt_zero i)⟩, ⟨rfl, by decide, fun i hi => absurd hi (Nat.not_lt_zero i)⟩, fun i => ⟨Or.inl rfl, Or.inl rfl⟩⟩
  · rcases xL_cases hi with rfl | rfl | rfl | rfl | rfl | rfl | rfl | rfl | rfl
    · exact ⟨(f2.trans (zA_ok 2 1 54 rfl rfl)), nW _ _ f2 (fun z => by cases z)⟩
    · exact ⟨(f4.trans (zA_ok 4 0 60 rfl rfl)), nW _ _ f4 (fun z => by cases z)⟩
    · exact ⟨(f7.trans (zA_ok 7 0 6 rfl rfl)), nW _ _ f7 (fun z => by cases z)⟩
    · exact ⟨(f8.trans (zA_ok 8 0 6 rfl rfl)), nW _ _ f8 (fun z => by cases z)⟩
    · exact ⟨(f9.trans (zA_ok 9 2 6 rfl rfl)), nW _ _ f9 (fun z => by cases z)⟩
    · exact ⟨(f16.trans (zA_ok 16 0 60 rfl rfl)), nW _ _ f16 (fun z => by cases z)⟩
    · exact ⟨(f17.trans (zA_ok 17 0 6 rfl rfl)), nW _ _ f17 (fun z => by cases z)⟩
    · exact ⟨(f18.trans (zA_ok 18 0 6 rfl rfl)), nW _ _ f18 (fun z => by cases z)⟩
    · exact ⟨(f19.trans (zA_ok 19 2 6 rfl rfl)), nW _ _ f19 (fun z => by cases z)⟩
  · exact A_inj nd2 i j hi hj e
