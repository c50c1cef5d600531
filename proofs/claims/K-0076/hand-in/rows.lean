section
/-! rows taken from kit/rows/PURE-ROWS -/
theorem pk_us {f : Nat → Int32} {k : Nat} {x : Int32} : upd f k x k = x := if_pos rfl
theorem pk_un {f : Nat → Int32} {k j : Nat} {x : Int32} (h : j ≠ k) : upd f k x j = f j := if_neg h
theorem pk_vb (z : Int32) : vp_nar .byte z.toInt8.toInt32 = z.toInt8.toInt32 := by rw [vp_nar_byte]; simp
theorem pk_vs (z : Int32) : vp_nar .short z.toInt16.toInt32 = z.toInt16.toInt32 := by rw [vp_nar_short]; simp
def sb_b (c : Nat) : Int32 := (nI c).toInt8.toInt32
theorem sb_byte : ∀ c, c < 256 → sb_b c &&& 255 = nI c ∧ ((nI c).toUInt32 % 65536).toInt32 = nI c ∧ nI c ≤ 255 := by decide +kernel
/-! ===== plain facts about one sample ===== -/
theorem de_0 : (0 : Int32).toInt = 0 := by decide
theorem de_3 : (3 : Int32).toInt = 3 := by decide
theorem de_255 : (255 : Int32).toInt = 255 := by decide
theorem de_lt0 {x : Int32} : x < 0 ↔ x.toInt < 0 := by rw [Int32.lt_iff_toInt_lt, de_0]
theorem de_le0 {x : Int32} : 0 ≤ x ↔ 0 ≤ x.toInt := by rw [Int32.le_iff_toInt_le, de_0]
theorem de_le3 {x : Int32} : x ≤ 3 ↔ x.toInt ≤ 3 := by rw [Int32.le_iff_toInt_le, de_3]
theorem de_le255 {x : Int32} : x ≤ 255 ↔ x.toInt ≤ 255 := by rw [Int32.le_iff_toInt_le, de_255]
theorem de_byte {x : Int32} (h0 : 0 ≤ x.toInt) (h1 : x.toInt ≤ 255) : vp_nar .byte x.toInt8.toInt32 &&& 255 = x := by
  have hn : ¬ x < 0 := by rw [de_lt0]; omega
  obtain ⟨c, hc, rfl⟩ := nI_of2 (x := x) (M := 255) (n := 255) de_255 hn (de_le255.mpr h1)
  rw [pk_vb]
  exact (sb_byte c (by omega)).1
theorem de_short {x : Int32} (h0 : -32768 ≤ x.toInt) (h1 : x.toInt < 32768) : vp_nar .short x.toInt16.toInt32 = x := by
  rw [pk_vs, lg_i2s_small h0 h1]
theorem de_s0 : vp_nar .short 0 = 0 := by rw [vp_nar_short]; decide
theorem de_s255 : vp_nar .short 255 = 255 := by rw [vp_nar_short]; decide
theorem de_in {x : Int32} (h0 : ¬ x < 0) (h3 : x ≤ 3) : vp_in x 4 := by
  rw [de_lt0] at h0
  rw [de_le3] at h3
  rw [vp_in_iff]
  omega
/-- a cell of the byte array against a cell of the short array -/
def de_P (x y : Int32) : Prop := x &&& 255 = y ∧ 0 ≤ y.toInt ∧ y.toInt ≤ 255
theorem de_P0 : de_P 0 0 := by unfold de_P; decide
theorem de_Pb {x : Int32} (h0 : 0 ≤ x.toInt) (h1 : x.toInt ≤ 255) : de_P (vp_nar .byte x.toInt8.toInt32) x := ⟨de_byte h0 h1, h0, h1⟩
theorem de_upd {a b : Nat → Int32} {x y : Int32} (i : Nat) (H : ∀ j, de_P (a j) (b j)) (h : de_P x y) : ∀ j, de_P (upd a i x j) (upd b i y j) := by
  intro j
  by_cases e : j = i
  · subst e; rw [pk_us, pk_us]; exact h
  · rw [pk_un e, pk_un e]; exact H j
/-! ===== the pure functions of filter ===== -/
def de_abs (x : Int32) : Int32 := if 0 ≤ x then x else -x
def de_cl (x : Int32) : Int32 := if 0 ≤ x then if x ≤ 255 then x else 255 else 0
def de_cd (t d : Int32) : Int32 := if -t ≤ d then if d ≤ t then d else t else -t
def de_D (p1 p0 q0 q1 : Int32) : Int32 := ((((q0 - p0) * 4) + (p1 - q1)) + 4) >>> ((3 : Int32) &&& 31)
theorem de_cl_r (x : Int32) : 0 ≤ (de_cl x).toInt ∧ (de_cl x).toInt ≤ 255 := by
  unfold de_cl
  split
  · rename_i h
    rw [de_le0] at h
    split
    · rename_i h2
      rw [de_le255] at h2
      exact ⟨h, h2⟩
    · exact ⟨by decide, by decide⟩
  · exact ⟨by decide, by decide⟩
theorem de_neg {t : Int32} (h0 : 0 ≤ t.toInt) (h1 : t.toInt ≤ 255) : (-t).toInt = -t.toInt := Jvm.Kit.i32_neg (by omega)
theorem de_negle {t : Int32} (h0 : 0 ≤ t.toInt) (h1 : t.toInt ≤ 255) : -t ≤ t := by
  rw [Int32.le_iff_toInt_le, de_neg h0 h1]; omega
theorem de_cd_r {t : Int32} (d : Int32) (h0 : 0 ≤ t.toInt) (h1 : t.toInt ≤ 255) : -255 ≤ (de_cd t d).toInt ∧ (de_cd t d).toInt ≤ 255 := by
  have hn := de_neg h0 h1
  unfold de_cd
  split
  · rename_i h
    rw [Int32.le_iff_toInt_le, hn] at h
    split
    · rename_i h2
      rw [Int32.le_iff_toInt_le] at h2
      exact ⟨by omega, by omega⟩
    · exact ⟨by omega, by omega⟩
  · rw [hn]; exact ⟨by omega, by omega⟩
end
section
/-! ===== filter: what each side computes, the post general ===== -/
theorem de_x196 {post : Int32 → SX → Prop} {q d y al be tc : Int32} {a : Nat → Int32} (h : post d (al, be, tc, upd (upd a 1 (vp_nar .byte y.toInt8.toInt32)) 2 (vp_nar .byte (de_cl (q - d)).toInt8.toInt32))) : wX_filter_196 post q d y al be tc a := by
  have k : ∀ z, de_cl (q - d) = z → wX_filter_223 post d y z al be tc a := by
    intro z ez a1 e1 a2 e2
    subst e1 e2 ez
    exact h
  intro x ex
  subst ex
  by_cases c : 0 ≤ q - d
  · refine br_t c ?_
    by_cases c2 : q - d ≤ 255
    · exact br_t c2 (k _ (by rw [de_cl, if_pos c, if_pos c2]))
    · exact br_f c2 (k _ (by rw [de_cl, if_pos c, if_neg c2]))
  · exact br_f c (br_t (by decide) (k _ (by rw [de_cl, if_neg c])))
theorem de_x169 {post : Int32 → SX → Prop} {p q d al be tc : Int32} {a : Nat → Int32} (h : post d (al, be, tc, upd (upd a 1 (vp_nar .byte (de_cl (p + d)).toInt8.toInt32)) 2 (vp_nar .byte (de_cl (q - d)).toInt8.toInt32))) : wX_filter_169 post p q d al be tc a := by
  have k : ∀ z, de_cl (p + d) = z → wX_filter_196 post q d z al be tc a := by
    intro z ez
    subst ez
    exact de_x196 h
  intro x ex
  subst ex
  by_cases c : 0 ≤ p + d
  · refine br_t c ?_
    by_cases c2 : p + d ≤ 255
    · exact br_t c2 (k _ (by rw [de_cl, if_pos c, if_pos c2]))
    · exact br_f c2 (k _ (by rw [de_cl, if_pos c, if_neg c2]))
  · exact br_f c (br_t (by decide) (k _ (by rw [de_cl, if_neg c])))
/-- the gate: all three differences are below their thresholds -/
def de_G (al be p1 p0 q0 q1 : Int32) : Prop := ¬ al ≤ de_abs (p0 - q0) ∧ ¬ be ≤ de_abs (p1 - p0) ∧ ¬ be ≤ de_abs (q1 - q0)
theorem de_x91 {post : Int32 → SX → Prop} {p1 p0 q0 q1 x y z al be tc : Int32} {a : Nat → Int32}
    (ex : de_abs (p0 - q0) = x) (ey : de_abs (p1 - p0) = y) (ez : de_abs (q1 - q0) = z)
    (hn : ¬ de_G al be p1 p0 q0 q1 → post 0 (al, be, tc, a))
    (hg : de_G al be p1 p0 q0 q1 → ∀ d, d = de_cd tc (de_D p1 p0 q0 q1) → post d (al, be, tc, upd (upd a 1 (vp_nar .byte (de_cl (p0 + d)).toInt8.toInt32)) 2 (vp_nar .byte (de_cl (q0 - d)).toInt8.toInt32))) :
    wX_filter_91 post p1 p0 q0 q1 x y z al be tc a := by
  subst ex ey ez
  refine br_c (fun c => hn fun g => g.1 c) fun c1 => br_c (fun c => hn fun g => g.2.1 c) fun c2 => br_c (fun c => hn fun g => g.2.2 c) fun c3 => ?_
  intro d0 e0
  have e0' : d0 = de_D p1 p0 q0 q1 := e0
  have k : ∀ d, d = de_cd tc d0 → wX_filter_169 post p0 q0 d al be tc a := fun d ed => de_x169 (hg ⟨c1, c2, c3⟩ d (by rw [ed, e0']))
  by_cases t1 : -tc ≤ d0
  · refine br_t t1 ?_
    by_cases t2 : d0 ≤ tc
    · exact br_t t2 (k _ (by rw [de_cd, if_pos t1, if_pos t2]))
    · exact br_f t2 (k _ (by rw [de_cd, if_pos t1, if_neg t2]))
  · exact br_f t1 fun d ed => k d (by rw [de_cd, if_neg t1, ed])
theorem de_xabs {P : Int32 → Prop} {x : Int32} (h : ∀ z, de_abs x = z → P z) : (0 ≤ x → P x) ∧ (¬ 0 ≤ x → ∀ y, y = -x → P y) :=
  ⟨fun c => h _ (by rw [de_abs, if_pos c]), fun c y ey => h _ (by rw [de_abs, if_neg c, ey])⟩
theorem de_xf {post : Int32 → SX → Prop} {p1 p0 q0 q1 al be tc : Int32} {a : Nat → Int32}
    (e1 : a 0 &&& 255 = p1) (e2 : a 1 &&& 255 = p0) (e3 : a 2 &&& 255 = q0) (e4 : a 3 &&& 255 = q1)
    (hn : ¬ de_G al be p1 p0 q0 q1 → post 0 (al, be, tc, a))
    (hg : de_G al be p1 p0 q0 q1 → ∀ d, d = de_cd tc (de_D p1 p0 q0 q1) → post d (al, be, tc, upd (upd a 1 (vp_nar .byte (de_cl (p0 + d)).toInt8.toInt32)) 2 (vp_nar .byte (de_cl (q0 - d)).toInt8.toInt32))) :
    wpX_filter post (al, be, tc, a) := by
  intro x1 h1 x2 h2 x3 h3 x4 h4 x5 h5
  rw [e1] at h1
  rw [e2] at h2
  rw [e3] at h3
  rw [e4] at h4
  subst h1 h2 h3 h4 h5
  refine de_xabs (P := fun z => wX_filter_60 post x1 x2 x3 x4 z al be tc a) fun x ex => ?_
  intro x6 h6
  subst h6
  refine de_xabs (P := fun z => wX_filter_75 post x1 x2 x3 x4 x z al be tc a) fun y ey => ?_
  intro x7 h7
  subst h7
  refine de_xabs (P := fun z => wX_filter_91 post x1 x2 x3 x4 x y z al be tc a) fun z ez => ?_
  exact de_x91 ex ey ez hn hg
/-! the reference -/
theorem de_y196 {post : Int32 → SY → Prop} {d al be tc : Int32} {c : Nat → Int32}
    (h : ∀ b, b 2 = de_cl (c 2) → (∀ j, j ≠ 2 → b j = c j) → post d (al, be, tc, b)) : wY_filter_196 post d al be tc c := by
  by_cases t : 0 ≤ c 2
  · refine br_t t ?_
    by_cases t2 : c 2 ≤ 255
    · exact br_t t2 (h c (by rw [de_cl, if_pos t, if_pos t2]) fun _ _ => rfl)
    · refine br_f t2 fun b eb => h b ?_ fun j hj => ?_
      · rw [eb, pk_us, de_s255, de_cl, if_pos t, if_neg t2]
      · rw [eb, pk_un hj]
  · refine br_f t fun b eb => ?_
    have e2 : b 2 = 0 := by rw [eb, pk_us, de_s0]
    have t2 : b 2 ≤ 255 := by rw [e2]; decide
    exact br_t t2 (h b (by rw [e2, de_cl, if_neg t]) fun j hj => by rw [eb, pk_un hj])
theorem de_y137 {post : Int32 → SY → Prop} {d al be tc : Int32} {c : Nat → Int32}
    (l1 : -32768 ≤ (c 1 + d).toInt) (u1 : (c 1 + d).toInt < 32768) (l2 : -32768 ≤ (c 2 - d).toInt) (u2 : (c 2 - d).toInt < 32768)
    (h : ∀ b, b 1 = de_cl (c 1 + d) → b 2 = de_cl (c 2 - d) → (∀ j, j ≠ 1 → j ≠ 2 → b j = c j) → post d (al, be, tc, b)) : wY_filter_137 post d al be tc c := by
  intro a1 e1 a2 e2
  rw [de_short l1 u1] at e1
  have f1 : a1 1 = c 1 + d := by rw [e1, pk_us]
  have f2 : a1 2 = c 2 := by rw [e1, pk_un (by decide)]
  rw [f2, de_short l2 u2] at e2
  have g1 : a2 1 = c 1 + d := by rw [e2, pk_un (by decide), f1]
  have g2 : a2 2 = c 2 - d := by rw [e2, pk_us]
  have g3 : ∀ j, j ≠ 1 → j ≠ 2 → a2 j = c j := fun j h1 h2 => by rw [e2, pk_un h2, e1, pk_un h1]
  have k : ∀ a3 : Nat → Int32, a3 1 = de_cl (c 1 + d) → (∀ j, j ≠ 1 → a3 j = a2 j) → wY_filter_196 post d al be tc a3 := by
    intro a3 h1 h2
    refine de_y196 fun b hb2 hb => h b ?_ ?_ ?_
    · rw [hb 1 (by decide), h1]
    · rw [hb2, h2 2 (by decide), g2]
    · intro j j1 j2
      rw [hb j j2, h2 j j1, g3 j j1 j2]
  by_cases t : 0 ≤ a2 1
  · refine br_t t ?_
    by_cases t2 : a2 1 ≤ 255
    · refine br_t t2 (k a2 ?_ fun _ _ => rfl)
      rw [← g1, de_cl, if_pos t, if_pos t2]
    · refine br_f t2 fun b eb => k b ?_ fun j hj => ?_
      · rw [eb, pk_us, de_s255, ← g1, de_cl, if_pos t, if_neg t2]
      · rw [eb, pk_un hj]
  · refine br_f t fun b eb => ?_
    have z : b 1 = 0 := by rw [eb, pk_us, de_s0]
    have t2 : b 1 ≤ 255 := by rw [z]; decide
    exact br_t t2 (k b (by rw [z, ← g1, de_cl, if_neg t]) fun j hj => by rw [eb, pk_un hj])
theorem de_yabs {post : Int32 → Prop} {x : Int32} (h : post (de_abs x)) : wpY_abs post x :=
  ⟨fun c => by rw [de_abs, if_pos c] at h; exact h, fun c => by rw [de_abs, if_neg c] at h; exact h⟩
theorem de_yf {post : Int32 → SY → Prop} {al be tc : Int32} {b : Nat → Int32} (h0 : 0 ≤ tc.toInt) (h1 : tc.toInt ≤ 255)
    (hn : ¬ de_G al be (b 0) (b 1) (b 2) (b 3) → post 0 (al, be, tc, b))
    (hg : de_G al be (b 0) (b 1) (b 2) (b 3) → ∀ d, d = de_cd tc (de_D (b 0) (b 1) (b 2) (b 3)) → wY_filter_137 post d al be tc b) :
    wpY_filter post (al, be, tc, b) := by
  unfold wpY_filter
  dsimp only
  refine de_yabs ?_
  refine br_c (fun c1 => ?_) fun c => hn fun g => c (Int32.not_le.mp g.1)
  refine de_yabs ?_
  refine br_c (fun c2 => ?_) fun c => hn fun g => c (Int32.not_le.mp g.2.1)
  refine de_yabs ?_
  refine br_c (fun c3 => ?_) fun c => hn fun g => c (Int32.not_le.mp g.2.2)
  · have g : de_G al be (b 0) (b 1) (b 2) (b 3) := ⟨Int32.not_le.mpr c1, Int32.not_le.mpr c2, Int32.not_le.mpr c3⟩
    intro d0 e0
    have e0' : d0 = de_D (b 0) (b 1) (b 2) (b 3) := e0
    have k : ∀ d, d = de_cd tc d0 → wY_filter_137 post d al be tc b := fun d ed => hg g d (by rw [ed, e0'])
    by_cases t1 : -tc ≤ d0
    · refine br_t t1 ?_
      by_cases t2 : d0 ≤ tc
      · exact br_t t2 (k _ (by rw [de_cd, if_pos t1, if_pos t2]))
      · exact br_f t2 (k _ (by rw [de_cd, if_pos t1, if_neg t2]))
    · refine br_f t1 fun d ed => ?_
      have t2 : d ≤ tc := by rw [ed]; exact de_negle h0 h1
      exact br_t t2 (k d (by rw [de_cd, if_neg t1, ed]))
end
section
/-- equal thresholds, tc within 0 .. 255, and each byte, read with & 255, is the short, within 0 .. 255 -/
def i_Rel (_ : Nat) (u : SX) (v : SY) : Prop := ∃ (al be tc : Int32) (a b : Nat → Int32), u = (al, be, tc, a) ∧ v = (al, be, tc, b) ∧ 0 ≤ tc.toInt ∧ tc.toInt ≤ 255 ∧ ∀ j, de_P (a j) (b j)
theorem de_mk {k : Nat} {al be tc : Int32} {a b : Nat → Int32} (h0 : 0 ≤ tc.toInt) (h1 : tc.toInt ≤ 255) (H : ∀ j, de_P (a j) (b j)) : i_Rel k (al, be, tc, a) (al, be, tc, b) :=
  ⟨al, be, tc, a, b, rfl, rfl, h0, h1, H⟩
theorem i_up {k : Nat} {u : SX} {v : SY} (h : i_Rel k u v) : i_Rel (k + 4) u v := h
theorem i_vc0 : wpX_init (fun u => wpY_init (fun v => i_Rel 0 u v)) := de_mk (k := 0) (by decide) (by decide) fun _ => de_P0
theorem i_vc_set {k : Nat} {u : SX} {v : SY} (I : i_Rel k u v) (hk : k + 4 ≤ 2048) (v1 : Int32) (v2 : Int32) : wpX_set (fun r u' => wpY_set (fun r' v' => r' = r ∧ i_Rel (k + 4) u' v') v v1 v2) u v1 v2 := by
  obtain ⟨al, be, tc, a, b, rfl, rfl, h0, h1, H⟩ := I
  have J : i_Rel (k + 4) (al, be, tc, a) (al, be, tc, b) := de_mk h0 h1 H
  by_cases c1 : v1 < 0
  · exact br_t c1 (br_t c1 ⟨rfl, J⟩)
  by_cases c2 : v1 ≤ 3
  · have hi : vp_in v1 4 := de_in c1 c2
    by_cases c3 : v2 < 0
    · exact br_f c1 (br_t c2 (br_t c3 (br_f c1 (br_t c2 (br_t c3 ⟨rfl, J⟩)))))
    by_cases c4 : v2 ≤ 255
    · have l : 0 ≤ v2.toInt := by rw [de_lt0] at c3; omega
      have m : v2.toInt ≤ 255 := de_le255.mp c4
      refine br_f c1 (br_t c2 (br_f c3 (br_t c4 ⟨hi, fun a1 ea => br_f c1 (br_t c2 (br_f c3 (br_t c4 ⟨hi, fun b1 eb => ⟨rfl, ?_⟩⟩)))⟩)))
      rw [de_short (by omega) (by omega)] at eb
      subst ea eb
      exact de_mk h0 h1 (de_upd _ H (de_Pb l m))
    · exact br_f c1 (br_t c2 (br_f c3 (br_f c4 (br_f c1 (br_t c2 (br_f c3 (br_f c4 ⟨rfl, J⟩)))))))
  · exact br_f c1 (br_f c2 (br_f c1 (br_f c2 ⟨rfl, J⟩)))
theorem i_vc_setStrength {k : Nat} {u : SX} {v : SY} (I : i_Rel k u v) (hk : k + 4 ≤ 2048) (v1 : Int32) (v2 : Int32) (v3 : Int32) : wpX_setStrength (fun r u' => wpY_setStrength (fun r' v' => r' = r ∧ i_Rel (k + 4) u' v') v v1 v2 v3) u v1 v2 v3 := by
  obtain ⟨al, be, tc, a, b, rfl, rfl, h0, h1, H⟩ := I
  have J : i_Rel (k + 4) (al, be, tc, a) (al, be, tc, b) := de_mk h0 h1 H
  by_cases c1 : v1 < 0
  · exact br_t c1 (br_t c1 ⟨rfl, J⟩)
  by_cases c2 : 255 < v1
  · exact br_f c1 (br_t c2 (br_f c1 (br_t c2 ⟨rfl, J⟩)))
  by_cases c3 : v2 < 0
  · exact br_f c1 (br_f c2 (br_t c3 (br_f c1 (br_f c2 (br_t c3 ⟨rfl, J⟩)))))
  by_cases c4 : 255 < v2
  · exact br_f c1 (br_f c2 (br_f c3 (br_t c4 (br_f c1 (br_f c2 (br_f c3 (br_t c4 ⟨rfl, J⟩)))))))
  by_cases c5 : v3 < 0
  · exact br_f c1 (br_f c2 (br_f c3 (br_f c4 (br_t c5 (br_f c1 (br_f c2 (br_f c3 (br_f c4 (br_t c5 ⟨rfl, J⟩)))))))))
  by_cases c6 : v3 ≤ 255
  · have l : 0 ≤ v3.toInt := by rw [de_lt0] at c5; omega
    have m : v3.toInt ≤ 255 := de_le255.mp c6
    exact br_f c1 (br_f c2 (br_f c3 (br_f c4 (br_f c5 (br_t c6 (br_f c1 (br_f c2 (br_f c3 (br_f c4 (br_f c5 (br_t c6 ⟨rfl, de_mk l m H⟩)))))))))))
  · exact br_f c1 (br_f c2 (br_f c3 (br_f c4 (br_f c5 (br_f c6 (br_f c1 (br_f c2 (br_f c3 (br_f c4 (br_f c5 (br_f c6 ⟨rfl, J⟩)))))))))))
theorem i_vc_filter {k : Nat} {u : SX} {v : SY} (I : i_Rel k u v) (hk : k + 4 ≤ 2048) : wpX_filter (fun r u' => wpY_filter (fun r' v' => r' = r ∧ i_Rel (k + 4) u' v') v) u := by
  obtain ⟨al, be, tc, a, b, rfl, rfl, h0, h1, H⟩ := I
  refine de_xf (H 0).1 (H 1).1 (H 2).1 (H 3).1 (fun g => ?_) fun g d ed => ?_
  · exact de_yf h0 h1 (fun _ => ⟨rfl, de_mk h0 h1 H⟩) fun g' => absurd g' g
  · have rd := de_cd_r (de_D (b 0) (b 1) (b 2) (b 3)) h0 h1
    rw [← ed] at rd
    have r1 := (H 1).2
    have r2 := (H 2).2
    have s1 : (b 1 + d).toInt = (b 1).toInt + d.toInt := Jvm.Kit.i32_add (by omega) (by omega)
    have s2 : (b 2 - d).toInt = (b 2).toInt - d.toInt := Jvm.Kit.i32_sub (by omega) (by omega)
    refine de_yf h0 h1 (fun g' => absurd g g') fun _ d' ed' => ?_
    have e : d' = d := ed'.trans ed.symm
    subst e
    refine de_y137 (by omega) (by omega) (by omega) (by omega) fun b' f1 f2 f3 => ⟨rfl, de_mk h0 h1 fun j => ?_⟩
    by_cases j2 : j = 2
    · subst j2
      rw [pk_us, f2]
      exact de_Pb (de_cl_r _).1 (de_cl_r _).2
    · rw [pk_un j2]
      by_cases j1 : j = 1
      · subst j1
        rw [pk_us, f1]
        exact de_Pb (de_cl_r _).1 (de_cl_r _).2
      · rw [pk_un j1, f3 j j1 j2]
        exact H j
theorem i_vc_get {k : Nat} {u : SX} {v : SY} (I : i_Rel k u v) (hk : k + 4 ≤ 2048) (v1 : Int32) : wpX_get (fun r => wpY_get (fun r' => r' = r ∧ i_Rel (k + 4) u v) v v1) u v1 := by
  obtain ⟨al, be, tc, a, b, rfl, rfl, h0, h1, H⟩ := I
  have J : i_Rel (k + 4) (al, be, tc, a) (al, be, tc, b) := de_mk h0 h1 H
  by_cases c1 : v1 < 0
  · exact br_t c1 (br_t c1 ⟨rfl, J⟩)
  by_cases c2 : v1 ≤ 3
  · have hi : vp_in v1 4 := de_in c1 c2
    exact br_f c1 (br_t c2 ⟨hi, br_f c1 (br_t c2 ⟨hi, (H _).1.symm, J⟩)⟩)
  · exact br_f c1 (br_f c2 (br_f c1 (br_f c2 ⟨rfl, J⟩)))
end
