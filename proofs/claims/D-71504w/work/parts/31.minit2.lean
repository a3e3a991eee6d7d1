/-! MODEL 21: the constructor walked -/
set_option maxRecDepth 100000
def rmI : Room := { rmL 1 with cells := 26, slots := 2383 }
def sI0 : MS := (fun _ => 0, fun _ _ => 0)
def sI1 : MS := setA (setI sI0 31 (-1)) 6 0 (-1)
theorem mLen_lt {k : Nat} (h : mLen k ≠ 0) : k < 49 := by
  unfold mLen at h
  split at h <;> first | omega | exact absurd rfl h
theorem pF_mF {ad : Nat → Nat} : pF ad 49 = mF ad sI0 := by
  unfold pF mF
  refine List.map_congr_left (fun k hk => ?_)
  unfold pV mV
  by_cases c : k = 49
  · rw [if_pos c, if_pos c]; rfl
  · rw [if_neg c, if_neg c]
    by_cases c1 : mLen k = 0
    · rw [if_pos c1, if_pos c1]; rfl
    · rw [if_neg c1, if_neg c1, if_pos (mLen_lt c1)]
theorem pH_mH {ad : Nat → Nat} (hok : AdOk ad) : ∀ a e, mH ad sI0 a = some e → pH ad 49 a = some e := by
  intro a e he
  have ok : PaOk ad 49 := fun i j hi hj e => hok i j (hi.imp (fun z => z.2) id) (hj.imp (fun z => z.2) id) e
  by_cases c : a = ad 50
  · subst c
    rw [mH_obj] at he
    rw [pH_obj, pF_mF]
    exact he
  · by_cases c1 : ∃ k, mLen k ≠ 0 ∧ ad k = a
    · obtain ⟨k, k1, rfl⟩ := c1
      rw [mH_arr hok k1] at he
      rw [pH_arr ok (mLen_lt k1) k1]
      exact he
    · rw [mH_none c (fun k h1 h2 => c1 ⟨k, h1, h2⟩)] at he
      cases he
theorem m_init (ad : Nat → Nat) (a0 : Nat) (ha : ad 50 = a0) : Ct yX2_init cX2_init 1 none rmI [.ref a0] (pH ad 0) (rV (fun hp' => ∃ ad : Nat → Nat, ad 50 = a0 ∧ AdOk ad ∧ MR sI1 ∧ hp' = mH ad sI1)) := by
  refine Ct.of (by decide) (EL.c1 rfl EL.n0) (fun Γ h hq hnm => ?_)
  have ok : PaOk ad 0 := by
    intro i j hi hj e
    omega
  refine v_aload_n (n' := 1) h dX2_init_0 rfl rfl ?_
  refine v_objInit (n' := 4) h q936 q110 q111 dX2_init_1 rfl (by decide) (by decide) ?_
  refine v_aload_n (n' := 5) h dX2_init_4 rfl rfl ?_
  refine v_bipush (n' := 7) h dX2_init_5 rfl (by decide) ?_
  refine vi_arr (F := 0) h hnm 0 54 (by decide) (by decide) ha (by decide) ok q937 dX2_init_7 dX2_init_9 (by decide) (by decide) (fun ad ha ok => ?_)
  refine v_aload_n (n' := 13) h dX2_init_12 rfl rfl ?_
  refine v_sipush (n' := 16) h dX2_init_13 rfl (by decide) ?_
  refine vi_arr (F := 1) h hnm 2 200 (by decide) (by decide) ha (by decide) ok q939 dX2_init_16 dX2_init_18 (by decide) (by decide) (fun ad ha ok => ?_)
  refine v_aload_n (n' := 22) h dX2_init_21 rfl rfl ?_
  refine v_sipush (n' := 25) h dX2_init_22 rfl (by decide) ?_
  refine vi_arr (F := 3) h hnm 3 200 (by decide) (by decide) ha (by decide) ok q940 dX2_init_25 dX2_init_27 (by decide) (by decide) (fun ad ha ok => ?_)
  refine v_aload_n (n' := 31) h dX2_init_30 rfl rfl ?_
  refine v_sipush (n' := 34) h dX2_init_31 rfl (by decide) ?_
  refine vi_arr (F := 4) h hnm 4 200 (by decide) (by decide) ha (by decide) ok q941 dX2_init_34 dX2_init_36 (by decide) (by decide) (fun ad ha ok => ?_)
  refine v_aload_n (n' := 40) h dX2_init_39 rfl rfl ?_
  refine v_sipush (n' := 43) h dX2_init_40 rfl (by decide) ?_
  refine vi_arr (F := 5) h hnm 5 200 (by decide) (by decide) ha (by decide) ok q942 dX2_init_43 dX2_init_45 (by decide) (by decide) (fun ad ha ok => ?_)
  refine v_aload_n (n' := 49) h dX2_init_48 rfl rfl ?_
  refine v_iconst (n' := 50) h dX2_init_49 rfl ?_
  refine vi_arr (F := 6) h hnm 6 2 (by decide) (by decide) ha (by decide) ok q943 dX2_init_50 dX2_init_52 (by decide) (by decide) (fun ad ha ok => ?_)
  refine v_aload_n (n' := 56) h dX2_init_55 rfl rfl ?_
  refine v_iconst (n' := 57) h dX2_init_56 rfl ?_
  refine vi_arr (F := 7) h hnm 7 2 (by decide) (by decide) ha (by decide) ok q944 dX2_init_57 dX2_init_59 (by decide) (by decide) (fun ad ha ok => ?_)
  refine v_aload_n (n' := 63) h dX2_init_62 rfl rfl ?_
  refine v_iconst (n' := 64) h dX2_init_63 rfl ?_
  refine vi_arr (F := 8) h hnm 8 2 (by decide) (by decide) ha (by decide) ok q945 dX2_init_64 dX2_init_66 (by decide) (by decide) (fun ad ha ok => ?_)
  refine v_aload_n (n' := 70) h dX2_init_69 rfl rfl ?_
  refine v_iconst (n' := 71) h dX2_init_70 rfl ?_
  refine vi_arr (F := 9) h hnm 10 2 (by decide) (by decide) ha (by decide) ok q947 dX2_init_71 dX2_init_73 (by decide) (by decide) (fun ad ha ok => ?_)
  refine v_aload_n (n' := 77) h dX2_init_76 rfl rfl ?_
  refine v_iconst (n' := 78) h dX2_init_77 rfl ?_
  refine vi_arr (F := 11) h hnm 11 2 (by decide) (by decide) ha (by decide) ok q948 dX2_init_78 dX2_init_80 (by decide) (by decide) (fun ad ha ok => ?_)
  refine v_aload_n (n' := 84) h dX2_init_83 rfl rfl ?_
  refine v_bipush (n' := 86) h dX2_init_84 rfl (by decide) ?_
  refine vi_arr (F := 12) h hnm 12 100 (by decide) (by decide) ha (by decide) ok q949 dX2_init_86 dX2_init_88 (by decide) (by decide) (fun ad ha ok => ?_)
  refine v_aload_n (n' := 92) h dX2_init_91 rfl rfl ?_
  refine v_bipush (n' := 94) h dX2_init_92 rfl (by decide) ?_
  refine vi_arr (F := 13) h hnm 13 100 (by decide) (by decide) ha (by decide) ok q950 dX2_init_94 dX2_init_96 (by decide) (by decide) (fun ad ha ok => ?_)
  refine v_aload_n (n' := 100) h dX2_init_99 rfl rfl ?_
  refine v_bipush (n' := 102) h dX2_init_100 rfl (by decide) ?_
  refine vi_arr (F := 14) h hnm 21 60 (by decide) (by decide) ha (by decide) ok q958 dX2_init_102 dX2_init_104 (by decide) (by decide) (fun ad ha ok => ?_)
  refine v_aload_n (n' := 108) h dX2_init_107 rfl rfl ?_
  refine v_bipush (n' := 110) h dX2_init_108 rfl (by decide) ?_
  refine vi_arr (F := 22) h hnm 24 40 (by decide) (by decide) ha (by decide) ok q961 dX2_init_110 dX2_init_112 (by decide) (by decide) (fun ad ha ok => ?_)
  refine v_aload_n (n' := 116) h dX2_init_115 rfl rfl ?_
  refine v_bipush (n' := 118) h dX2_init_116 rfl (by decide) ?_
  refine vi_arr (F := 25) h hnm 25 41 (by decide) (by decide) ha (by decide) ok q962 dX2_init_118 dX2_init_120 (by decide) (by decide) (fun ad ha ok => ?_)
  refine v_aload_n (n' := 124) h dX2_init_123 rfl rfl ?_
  refine v_bipush (n' := 126) h dX2_init_124 rfl (by decide) ?_
  refine vi_arr (F := 26) h hnm 26 41 (by decide) (by decide) ha (by decide) ok q963 dX2_init_126 dX2_init_128 (by decide) (by decide) (fun ad ha ok => ?_)
  refine v_aload_n (n' := 132) h dX2_init_131 rfl rfl ?_
  refine v_bipush (n' := 134) h dX2_init_132 rfl (by decide) ?_
  refine vi_arr (F := 27) h hnm 27 41 (by decide) (by decide) ha (by decide) ok q964 dX2_init_134 dX2_init_136 (by decide) (by decide) (fun ad ha ok => ?_)
  refine v_aload_n (n' := 140) h dX2_init_139 rfl rfl ?_
  refine v_bipush (n' := 142) h dX2_init_140 rfl (by decide) ?_
  refine vi_arr (F := 28) h hnm 29 18 (by decide) (by decide) ha (by decide) ok q966 dX2_init_142 dX2_init_144 (by decide) (by decide) (fun ad ha ok => ?_)
  refine v_aload_n (n' := 148) h dX2_init_147 rfl rfl ?_
  refine v_sipush (n' := 151) h dX2_init_148 rfl (by decide) ?_
  refine vi_arr (F := 30) h hnm 41 200 (by decide) (by decide) ha (by decide) ok q978 dX2_init_151 dX2_init_153 (by decide) (by decide) (fun ad ha ok => ?_)
  refine v_aload_n (n' := 157) h dX2_init_156 rfl rfl ?_
  refine v_sipush (n' := 160) h dX2_init_157 rfl (by decide) ?_
  refine vi_arr (F := 42) h hnm 42 200 (by decide) (by decide) ha (by decide) ok q979 dX2_init_160 dX2_init_162 (by decide) (by decide) (fun ad ha ok => ?_)
  refine v_aload_n (n' := 166) h dX2_init_165 rfl rfl ?_
  refine v_sipush (n' := 169) h dX2_init_166 rfl (by decide) ?_
  refine vi_arr (F := 43) h hnm 43 200 (by decide) (by decide) ha (by decide) ok q980 dX2_init_169 dX2_init_171 (by decide) (by decide) (fun ad ha ok => ?_)
  refine v_aload_n (n' := 175) h dX2_init_174 rfl rfl ?_
  refine v_sipush (n' := 178) h dX2_init_175 rfl (by decide) ?_
  refine vi_arr (F := 44) h hnm 44 200 (by decide) (by decide) ha (by decide) ok q981 dX2_init_178 dX2_init_180 (by decide) (by decide) (fun ad ha ok => ?_)
  refine v_aload_n (n' := 184) h dX2_init_183 rfl rfl ?_
  refine v_bipush (n' := 186) h dX2_init_184 rfl (by decide) ?_
  refine vi_arr (F := 45) h hnm 45 100 (by decide) (by decide) ha (by decide) ok q982 dX2_init_186 dX2_init_188 (by decide) (by decide) (fun ad ha ok => ?_)
  refine v_aload_n (n' := 192) h dX2_init_191 rfl rfl ?_
  refine v_bipush (n' := 194) h dX2_init_192 rfl (by decide) ?_
  refine vi_arr (F := 46) h hnm 46 100 (by decide) (by decide) ha (by decide) ok q983 dX2_init_194 dX2_init_196 (by decide) (by decide) (fun ad ha ok => ?_)
  refine v_aload_n (n' := 200) h dX2_init_199 rfl rfl ?_
  refine v_bipush (n' := 202) h dX2_init_200 rfl (by decide) ?_
  refine vi_arr (F := 47) h hnm 47 60 (by decide) (by decide) ha (by decide) ok q984 dX2_init_202 dX2_init_204 (by decide) (by decide) (fun ad ha ok => ?_)
  refine v_aload_n (n' := 208) h dX2_init_207 rfl rfl ?_
  refine v_bipush (n' := 210) h dX2_init_208 rfl (by decide) ?_
  refine vi_arr (F := 48) h hnm 48 18 (by decide) (by decide) ha (by decide) ok q985 dX2_init_210 dX2_init_212 (by decide) (by decide) (fun ad ha ok => ?_)
  have hok : AdOk ad := by
    intro i j hi hj e
    exact ok i j (hi.imp (fun z => ⟨mLen_lt z, z⟩) id) (hj.imp (fun z => ⟨mLen_lt z, z⟩) id) e
  refine V.less (pH_mH hok) ?_
  subst ha
  have z0 : (-2147483648 : Int) ≤ 0 ∧ (0 : Int) ≤ 2147483647 := by decide
  have hm : MR sI0 := ⟨fun _ _ => z0, fun _ _ => z0⟩
  refine v_aload_n (n' := 216) h dX2_init_215 rfl rfl ?_
  refine v_iconst (n' := 217) h dX2_init_216 rfl ?_
  refine vm_puti (n' := 220) h hm 31 (by decide) q968 dX2_init_217 rfl (by decide) (fun m217 => ?_)
  refine v_aload_n (n' := 221) h dX2_init_220 rfl rfl ?_
  refine vm_geta (n' := 224) h 6 (by decide) q943 dX2_init_221 rfl ?_
  refine v_iconst (n' := 225) h dX2_init_224 rfl ?_
  refine v_iconst (n' := 226) h dX2_init_225 rfl ?_
  refine vm_iast (n' := 227) h hok m217 6 2 (by decide) dX2_init_226 rfl (by decide) (by decide) (by decide) (fun m226 => ?_)
  exact v_vret h hq dX2_init_227 (by decide) (by decide) ⟨rfl, ad, rfl, hok, m226, rfl⟩
