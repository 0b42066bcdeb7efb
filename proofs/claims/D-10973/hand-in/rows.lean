section
/-! the answers, as plain functions of the script's ints -/
def td_sz (m : Int32) : Int32 := if m < 0 then 0 else if 40 < m then 0 else m
def td_rb (m : Int32) : Int32 := if m < 0 then -1 else if 40 < m then -1 else 0
def td_us (s k : Int32) : Int32 := if k < 1 then 0 else if s < k then 0 else k
def td_rk (s k : Int32) : Int32 := if k < 1 then -1 else if s < k then -3 else k
def td_rd (s us c : Int32) : Int32 := if c < 1 then -1 else if s - us < c then -3 else us + c
def td_in (a : Int32) : Int32 := if a < 0 then 0 else if 3 < a then 0 else 1
def td_rs (a b : Int32) : Int32 := if td_in a = 0 then 0 else if td_in b = 0 then 0 else 1
def td_ra (a b : Int32) : Int32 := if td_in a = 0 then -1 else if td_in b = 0 then -1 else 0
def td_ri (a : Int32) : Int32 := if td_in a = 0 then -1 else 0
/-! what they are, case by case -/
theorem td_i1 {c : Prop} [Decidable c] {x y : Int32} (h : c) : (if c then x else y) = x := if_pos h
theorem td_i2 {c d : Prop} [Decidable c] [Decidable d] {x y z : Int32} (h : ¬ c) (g : d) : (if c then x else if d then y else z) = y := by
  rw [if_neg h, if_pos g]
theorem td_i3 {c d : Prop} [Decidable c] [Decidable d] {x y z : Int32} (h : ¬ c) (g : ¬ d) : (if c then x else if d then y else z) = z := by
  rw [if_neg h, if_neg g]
theorem td_nlt {a b : Int32} (h : b ≤ a) : ¬ a < b := Int32.not_lt.mpr h
theorem td_lt {a b : Int32} (h : ¬ b ≤ a) : a < b := Int32.not_le.mp h
theorem td_le {a b : Int32} (h : ¬ a < b) : b ≤ a := Int32.not_lt.mp h
theorem td_sz40 (m : Int32) : td_sz m ≤ 40 := by
  unfold td_sz
  by_cases h : m < 0
  · rw [if_pos h]
    decide
  · by_cases g : 40 < m
    · rw [td_i2 h g]
      decide
    · rw [td_i3 h g]
      exact td_le g
theorem td_in_of {a : Int32} (h : ¬ td_in a = 0) : ∃ j : Nat, j < 4 ∧ a = nI j := by
  by_cases h1 : a < 0
  · exact absurd (by unfold td_in; exact td_i1 h1) h
  · by_cases h2 : 3 < a
    · exact absurd (by unfold td_in; exact td_i2 h1 h2) h
    · obtain ⟨j, hj, e⟩ := nI_of2 (M := 3) (n := 3) (by decide) h1 (td_le h2)
      exact ⟨j, by omega, e⟩
/-! the law's own checks, from the last to the first -/
theorem td_260 {mc ms kc ks : Nat} {z0 z1 : Int32} (h : z1 = z0) : wL_lawOf_260 (fun r _ => r = 1) mc ms z0 z1 kc ks := br_t h rfl
theorem td_245 {mc ms kc ks : Nat} {a z0 z1 : Int32} (h : z1 = z0) : wL_lawOf_245 (fun r _ => r = 1) mc ms (td_ri a) (td_in a) z0 z1 kc ks :=
  br_t h (br_c (fun g => td_260 (by unfold td_ri; exact if_pos g)) (fun g => td_260 (by unfold td_ri; exact if_neg g)))
theorem td_225 {mc ms kc ks : Nat} {a b z0 z1 : Int32} (h : z1 = z0) : wL_lawOf_225 (fun r _ => r = 1) mc ms (td_ra a b) (td_ri a) (td_in a) (td_in b) z0 z1 kc ks :=
  br_t h (br_c (fun g => td_245 (by unfold td_ra; exact td_i1 g)) (fun g => br_c (fun g2 => td_245 (by unfold td_ra; exact td_i2 g g2)) (fun g2 => td_245 (by unfold td_ra; exact td_i3 g g2))))
theorem td_205 {mc ms kc ks : Nat} {a b z0 z1 : Int32} (h : z1 = z0) : wL_lawOf_205 (fun r _ => r = 1) mc ms (td_rs a b) (td_ra a b) (td_ri a) (td_in a) (td_in b) z0 z1 kc ks :=
  br_t h (br_c (fun g => td_225 (by unfold td_rs; exact td_i1 g)) (fun g => br_c (fun g2 => td_225 (by unfold td_rs; exact td_i2 g g2)) (fun g2 => td_225 (by unfold td_rs; exact td_i3 g g2))))
theorem td_173 {mc ms kc ks : Nat} {c s us a b z0 z1 : Int32} (h : z1 = z0) : wL_lawOf_173 (fun r _ => r = 1) mc ms c (td_rd s us c) (td_rs a b) (td_ra a b) (td_ri a) s us (td_in a) (td_in b) z0 z1 kc ks :=
  br_t h (br_c (fun g => br_c (fun g2 => td_205 (by unfold td_rd; exact td_i3 (td_nlt g) (td_nlt g2))) (fun g2 => td_205 (by unfold td_rd; exact td_i2 (td_nlt g) (td_lt g2)))) (fun g => td_205 (by unfold td_rd; exact td_i1 (td_lt g))))
theorem td_147 {mc ms kc ks : Nat} {k c s us a b z0 z1 : Int32} (h : z1 = z0) : wL_lawOf_147 (fun r _ => r = 1) mc ms k c (td_rk s k) (td_rd s us c) (td_rs a b) (td_ra a b) (td_ri a) s us (td_in a) (td_in b) z0 z1 kc ks :=
  br_t h (br_c (fun g => br_c (fun g2 => td_173 (by unfold td_rk; exact td_i3 (td_nlt g) (td_nlt g2))) (fun g2 => td_173 (by unfold td_rk; exact td_i2 (td_nlt g) (td_lt g2)))) (fun g => td_173 (by unfold td_rk; exact td_i1 (td_lt g))))
theorem td_128 {mc ms kc ks : Nat} {m k c s us a b y : Int32} (hy : y = td_in b) : wL_lawOf_128 (fun r _ => r = 1) mc ms m k c (td_rb m) (td_rk s k) (td_rd s us c) (td_rs a b) (td_ra a b) (td_ri a) s us (td_in a) y kc ks := by
  subst hy
  exact br_c (fun g => td_147 (by unfold td_rb; exact td_i1 g)) (fun g => br_c (fun g2 => td_147 (by unfold td_rb; exact td_i2 g g2)) (fun g2 => td_147 (by unfold td_rb; exact td_i3 g g2)))
theorem td_110 {mc ms kc ks : Nat} {m k c s us a b x : Int32} (hx : x = td_in a) : wL_lawOf_110 (fun r _ => r = 1) mc ms m k c b (td_rb m) (td_rk s k) (td_rd s us c) (td_rs a b) (td_ra a b) (td_ri a) s us x kc ks := by
  subst hx
  exact br_c (fun g => td_128 (by unfold td_in; exact (td_i1 g).symm)) (fun g => br_c (fun g2 => td_128 (by unfold td_in; exact (td_i2 g g2).symm)) (fun g2 => td_128 (by unfold td_in; exact (td_i3 g g2).symm)))
theorem td_94 {mc ms kc ks : Nat} {m k c s us a b : Int32} (hu : us = td_us s k) : wL_lawOf_94 (fun r _ => r = 1) mc ms m k c a b (td_rb m) (td_rk s k) (td_rd s (td_us s k) c) (td_rs a b) (td_ra a b) (td_ri a) s us kc ks := by
  subst hu
  exact br_c (fun g => td_110 (by unfold td_in; exact (td_i1 g).symm)) (fun g => br_c (fun g2 => td_110 (by unfold td_in; exact (td_i2 g g2).symm)) (fun g2 => td_110 (by unfold td_in; exact (td_i3 g g2).symm)))
theorem td_76 {mc ms kc ks : Nat} {m k c s a b : Int32} (hs : s = td_sz m) : wL_lawOf_76 (fun r _ => r = 1) mc ms m k c a b (td_rb m) (td_rk (td_sz m) k) (td_rd (td_sz m) (td_us (td_sz m) k) c) (td_rs a b) (td_ra a b) (td_ri a) s kc ks := by
  subst hs
  exact br_c (fun g => td_94 (by unfold td_us; exact (td_i1 g).symm)) (fun g => br_c (fun g2 => td_94 (by unfold td_us; exact (td_i2 g g2).symm)) (fun g2 => td_94 (by unfold td_us; exact (td_i3 g g2).symm)))
end
section
/-! the state: the work delta's size, what is used of it, its out length, its runs; the slots hold nothing, the text is empty -/
def td_st (sz us ou : Int32) (n : Nat) (u : St2) : Prop := match u with
  | (f0, f1, _, _, _, _, _, _, _, _, a1, a2, a3, a4, _, _, _, _, _) => f0 = us ∧ f1 = 0 ∧ a1 4 = sz ∧ a2 4 = ou ∧ a3 4 = nI n ∧ (∀ i, i < 4 → a1 i = 0) ∧ (∀ i, i < 4 → a2 i = 0) ∧ (∀ i, i < 4 → a3 i = 0) ∧ (∀ i, i < 4 → a4 i = 0)
/-- the slots hold nothing, the text is empty -/
def td_z (u : St2) : Prop := match u with
  | (_, f1, _, _, _, _, _, _, _, _, a1, a2, a3, a4, _, _, _, _, _) => f1 = 0 ∧ (∀ i, i < 4 → a1 i = 0) ∧ (∀ i, i < 4 → a2 i = 0) ∧ (∀ i, i < 4 → a3 i = 0) ∧ (∀ i, i < 4 → a4 i = 0)
theorem td_c4 : (4 : Int32).toNatClampNeg = 4 := pk_cl 4
theorem td_u4 {f : Nat → Int32} {x : Int32} : upd f (4 : Int32).toNatClampNeg x 4 = x := by
  rw [td_c4]
  exact pk_us
theorem td_n4 {f : Nat → Int32} {x : Int32} (h : ∀ i, i < 4 → f i = 0) : ∀ i, i < 4 → upd f (4 : Int32).toNatClampNeg x i = 0 := by
  intro i hi
  rw [td_c4, pk_un (by omega)]
  exact h i hi
theorem td_begin {post : Int32 → St2 → Prop} {u : St2} {m : Int32} (h : td_st 0 0 0 0 u) (H : ∀ v, td_st (td_sz m) 0 0 0 v → post (td_rb m) v) : wpX_begin post u m := by
  obtain ⟨f0, f1, f2, f3, f4, f5, f6, f7, f8, f9, a1, a2, a3, a4, a5, a6, a7, a8, a9⟩ := u
  obtain ⟨h0, h1, h2, h3, h4, h5, h6, h7, h8⟩ := h
  refine br_c (fun g => ?_) (fun g => br_c (fun g2 => ?_) (fun g2 => ?_))
  · have e1 : td_sz m = 0 := by unfold td_sz; exact td_i1 g
    have e2 : td_rb m = -1 := by unfold td_rb; exact td_i1 g
    rw [e1, e2] at H
    exact H _ ⟨h0, h1, h2, h3, h4, h5, h6, h7, h8⟩
  · have e1 : td_sz m = m := by unfold td_sz; exact td_i3 g (td_nlt g2)
    have e2 : td_rb m = 0 := by unfold td_rb; exact td_i3 g (td_nlt g2)
    rw [e1, e2] at H
    exact ⟨pk_in 4 6 (by omega), nm_e ⟨pk_in 4 6 (by omega), nm_e ⟨pk_in 4 6 (by omega), nm_e ⟨pk_in 4 6 (by omega), nm_e (H _ ⟨rfl, h1, td_u4, td_u4, td_u4, td_n4 h5, td_n4 h6, td_n4 h7, td_n4 h8⟩)⟩⟩⟩⟩
  · have e1 : td_sz m = 0 := by unfold td_sz; exact td_i2 g (td_lt g2)
    have e2 : td_rb m = -1 := by unfold td_rb; exact td_i2 g (td_lt g2)
    rw [e1, e2] at H
    exact H _ ⟨h0, h1, h2, h3, h4, h5, h6, h7, h8⟩
/-! runs are written at delta 4 alone -/
theorem td_at {a3 : Nat → Int32} {n : Nat} (h : a3 4 = nI n) : (4 : Int32) * 64 + a3 (4 : Int32).toNatClampNeg = nI (256 + n) := by
  rw [td_c4, h, show (4 : Int32) * 64 = nI 256 by decide, nI_add]
theorem td_bt {a3 : Nat → Int32} {n : Nat} (hn : 0 < n) (h : a3 4 = nI n) : (4 : Int32) * 64 + a3 (4 : Int32).toNatClampNeg - 1 = nI (255 + n) := by
  rw [td_at h, show 256 + n = 255 + n + 1 by omega, nI_pred]
theorem td_last {post : Int32 → Prop} {f0 f1 f2 f3 f4 f5 f6 f7 f8 f9 : Int32} {a1 a2 a3 a4 a5 a6 a7 a8 a9 : Nat → Int32} {n : Nat} (hn : n ≤ 2) (h : a3 4 = nI n) (H : ∀ r, (n = 0 → r = 0) → post r) :
    wpX_lastKind post (f0, f1, f2, f3, f4, f5, f6, f7, f8, f9, a1, a2, a3, a4, a5, a6, a7, a8, a9) 4 := by
  refine ⟨pk_in 4 6 (by omega), br_c (fun g => H 0 (fun _ => rfl)) (fun g => ?_)⟩
  have h0 : 0 < n := by
    rcases Nat.eq_zero_or_pos n with z | z
    · exact absurd (by rw [td_c4, h, z, nI_0]) g
    · exact z
  exact ⟨pk_in 4 6 (by omega), pk_in (255 + n) 448 (by omega) (td_bt h0 h), H _ (fun z => absurd z (by omega))⟩
theorem td_61 {post : St2 → Prop} {k : Int32} {f0 f1 f2 f3 f4 f5 f6 f7 f8 f9 : Int32} {a1 a2 a3 a4 a5 a6 a7 a8 a9 : Nat → Int32} {n : Nat} (h0 : 0 < n) (hn : n ≤ 3) (h : a3 4 = nI n)
    (H : ∀ b6, post (f0, f1, f2, f3, f4, f5, f6, f7, f8, f9, a1, a2, a3, a4, a5, b6, a7, a8, a9)) :
    wX_grow_61 post 4 k f0 f1 f2 f3 f4 f5 f6 f7 f8 f9 a1 a2 a3 a4 a5 a6 a7 a8 a9 :=
  ⟨pk_in 4 6 (by omega), nm_r (td_bt h0 h) ⟨pk_in (255 + n) 448 (by omega), pk_in (255 + n) 448 (by omega), nm_e (H _)⟩⟩
theorem td_grow {post : St2 → Prop} {w k : Int32} {f0 f1 f2 f3 f4 f5 f6 f7 f8 f9 : Int32} {a1 a2 a3 a4 a5 a6 a7 a8 a9 : Nat → Int32} {n : Nat} (hn : n ≤ 2) (hw : ¬ 0 = w) (h : a3 4 = nI n) (h7 : ∀ i, i < 4 → a3 i = 0)
    (H : ∀ q b3 b5 b6, q ≤ n + 1 → b3 4 = nI q → (∀ i, i < 4 → b3 i = 0) → post (f0, f1, f2, f3, f4, f5, f6, f7, f8, f9, a1, a2, b3, a4, b5, b6, a7, a8, a9)) :
    wpX_grow post (f0, f1, f2, f3, f4, f5, f6, f7, f8, f9, a1, a2, a3, a4, a5, a6, a7, a8, a9) 4 w k := by
  unfold wpX_grow
  refine td_last hn h (fun r hr => br_c (fun g => ?_) (fun g => ?_))
  · have h0 : 0 < n := by
      rcases Nat.eq_zero_or_pos n with z | z
      · exact absurd (by rw [← hr z]; exact g) hw
      · exact z
    exact td_61 h0 (by omega) h (fun b6 => H n a3 a5 b6 (by omega) h h7)
  · have e : upd a3 (4 : Int32).toNatClampNeg (a3 (4 : Int32).toNatClampNeg + 1) 4 = nI (n + 1) := by
      rw [td_u4, td_c4, h, nI_1]
    exact ⟨pk_in 4 6 (by omega), pk_in (256 + n) 448 (by omega) (td_at h), nm_e ⟨pk_in 4 6 (by omega), pk_in (256 + n) 448 (by omega) (td_at h), nm_e ⟨pk_in 4 6 (by omega), pk_in 4 6 (by omega), nm_e (td_61 (by omega) (by omega) e (fun b6 => H (n + 1) _ _ b6 (by omega) e (td_n4 h7)))⟩⟩⟩
theorem td_keep {post : Int32 → St2 → Prop} {u : St2} {s k : Int32} (hs : s ≤ 40) (h : td_st s 0 0 0 u) (H : ∀ v q, q ≤ 1 → td_st s (td_us s k) (td_us s k) q v → post (td_rk s k) v) : wpX_keep post u k := by
  obtain ⟨f0, f1, f2, f3, f4, f5, f6, f7, f8, f9, a1, a2, a3, a4, a5, a6, a7, a8, a9⟩ := u
  obtain ⟨h0, h1, h2, h3, h4, h5, h6, h7, h8⟩ := h
  have es : a1 4 - f0 = s := by rw [h2, h0, Int32.sub_zero]
  refine br_c (fun g => br_c (fun g2 => br_c (fun g3 => br_f ?_ ?_) (fun g3 => ?_)) (fun g2 => ?_)) (fun g => ?_)
  · exact fun z => absurd (Int32.le_trans g z) (by decide)
  · rw [es] at g2
    have e1 : td_us s k = k := by unfold td_us; exact td_i3 (td_nlt g) (td_nlt g2)
    have e2 : td_rk s k = k := by unfold td_rk; exact td_i3 (td_nlt g) (td_nlt g2)
    rw [e1, e2] at H
    refine td_grow (n := 0) (by omega) (by decide) h4 h7 (fun q b3 b5 b6 hq hb3 hb7 => ⟨pk_in 4 6 (by omega), pk_in 4 6 (by omega), nm_e (nm_e ?_)⟩)
    have eo : upd a2 (4 : Int32).toNatClampNeg (a2 (4 : Int32).toNatClampNeg + k) 4 = k := by
      rw [td_u4, td_c4, h3, Int32.zero_add]
    have eu : f0 + k = k := by rw [h0, Int32.zero_add]
    exact ek_v (P := fun x => post x (f0 + k, f1, f2, f3, f4, f5, f6, f7, f8, f9, a1, upd a2 (4 : Int32).toNatClampNeg (a2 (4 : Int32).toNatClampNeg + k), b3, a4, b5, b6, a7, a8, a9)) eo (H _ q (by omega) ⟨eu, h1, h2, eo, hb3, h5, td_n4 h6, hb7, h8⟩)
  · rw [es] at g2
    rw [h3, Int32.zero_add] at g3
    exact absurd (Int32.le_trans g2 hs) g3
  · rw [es] at g2
    have e1 : td_us s k = 0 := by unfold td_us; exact td_i2 (td_nlt g) (td_lt g2)
    have e2 : td_rk s k = -3 := by unfold td_rk; exact td_i2 (td_nlt g) (td_lt g2)
    rw [e1, e2] at H
    exact H _ 0 (by omega) ⟨h0, h1, h2, h3, h4, h5, h6, h7, h8⟩
  · have e1 : td_us s k = 0 := by unfold td_us; exact td_i1 (td_lt g)
    have e2 : td_rk s k = -1 := by unfold td_rk; exact td_i1 (td_lt g)
    rw [e1, e2] at H
    exact H _ 0 (by omega) ⟨h0, h1, h2, h3, h4, h5, h6, h7, h8⟩
theorem td_drop {post : Int32 → St2 → Prop} {u : St2} {s us ou c : Int32} {n : Nat} (hn : n ≤ 1) (h : td_st s us ou n u) (H : ∀ v, td_z v → post (td_rd s us c) v) : wpX_drop post u c := by
  obtain ⟨f0, f1, f2, f3, f4, f5, f6, f7, f8, f9, a1, a2, a3, a4, a5, a6, a7, a8, a9⟩ := u
  obtain ⟨h0, h1, h2, h3, h4, h5, h6, h7, h8⟩ := h
  have es : a1 4 - f0 = s - us := by rw [h2, h0]
  refine br_c (fun g => br_c (fun g2 => br_f ?_ ?_) (fun g2 => ?_)) (fun g => ?_)
  · exact fun z => absurd (Int32.le_trans g z) (by decide)
  · rw [es] at g2
    have e2 : td_rd s us c = us + c := by unfold td_rd; exact td_i3 (td_nlt g) (td_nlt g2)
    rw [e2] at H
    exact td_grow (n := n) (by omega) (by decide) h4 h7 (fun q b3 b5 b6 hq hb3 hb7 => nm_r (show f0 + c = us + c by rw [h0]) (H _ ⟨h1, h5, h6, hb7, h8⟩))
  · rw [es] at g2
    have e2 : td_rd s us c = -3 := by unfold td_rd; exact td_i2 (td_nlt g) (td_lt g2)
    rw [e2] at H
    exact H _ ⟨h1, h5, h6, h7, h8⟩
  · have e2 : td_rd s us c = -1 := by unfold td_rd; exact td_i1 (td_lt g)
    rw [e2] at H
    exact H _ ⟨h1, h5, h6, h7, h8⟩
end
section
/-! the slots: all of them empty -/
theorem td_slot {post : Int32 → Prop} {u : St2} {a : Int32} (H : post (td_in a)) : wpX_slot post u a := by
  obtain ⟨f0, f1, f2, f3, f4, f5, f6, f7, f8, f9, a1, a2, a3, a4, a5, a6, a7, a8, a9⟩ := u
  refine br_c (fun g => ?_) (fun g => br_c (fun g2 => ?_) (fun g2 => ?_))
  · have e : td_in a = 0 := by unfold td_in; exact td_i1 g
    rw [e] at H
    exact H
  · have e : td_in a = 0 := by unfold td_in; exact td_i2 g g2
    rw [e] at H
    exact H
  · have e : td_in a = 1 := by unfold td_in; exact td_i3 g g2
    rw [e] at H
    exact H
theorem td_g0 {f : Nat → Int32} {j : Nat} (hj : j < 4) (h : ∀ i, i < 4 → f i = 0) : f (nI j).toNatClampNeg = 0 := by
  rw [nI_clamp (by omega)]
  exact h j hj
theorem td_le0 {x : Int32} (h : x = 0) : x ≤ 0 := by
  rw [h]
  decide
theorem td_same {post : Int32 → Prop} {u : St2} {a b : Int32} (h : td_z u) (H : post (td_rs a b)) : wpX_same post u a b := by
  obtain ⟨f0, f1, f2, f3, f4, f5, f6, f7, f8, f9, a1, a2, a3, a4, a5, a6, a7, a8, a9⟩ := u
  obtain ⟨h1, h5, h6, h7, h8⟩ := h
  unfold wpX_same
  refine td_slot (br_c (fun g => ?_) (fun g => td_slot (br_c (fun g2 => ?_) (fun g2 => ?_))))
  · have e : td_rs a b = 0 := by unfold td_rs; exact td_i1 g
    rw [e] at H
    exact H
  · have e : td_rs a b = 0 := by unfold td_rs; exact td_i2 g g2
    rw [e] at H
    exact H
  · have e : td_rs a b = 1 := by unfold td_rs; exact td_i3 g g2
    rw [e] at H
    obtain ⟨j, hj, rfl⟩ := td_in_of g
    obtain ⟨i, hi, rfl⟩ := td_in_of g2
    have pj : vp_in (nI j) 6 := pk_in j 6 (by omega)
    have pi : vp_in (nI i) 6 := pk_in i 6 (by omega)
    exact ⟨pj, pi, br_t ((td_g0 hj h5).trans (td_g0 hi h5).symm) ⟨pj, pi, br_t ((td_g0 hj h7).trans (td_g0 hi h7).symm) ⟨pj, pi, br_t ((td_g0 hj h8).trans (td_g0 hi h8).symm) ⟨1, pj, br_t (td_le0 (td_g0 hj h7)) ⟨1, pj, br_t (td_le0 (td_g0 hj h8)) H⟩⟩⟩⟩⟩
theorem td_c5 : (5 : Int32).toNatClampNeg = 5 := pk_cl 5
theorem td_u5 {f : Nat → Int32} {x : Int32} : upd f (5 : Int32).toNatClampNeg x 5 = x := by
  rw [td_c5]
  exact pk_us
theorem td_n5 {f : Nat → Int32} {x : Int32} (h : ∀ i, i < 4 → f i = 0) : ∀ i, i < 4 → upd f (5 : Int32).toNatClampNeg x i = 0 := by
  intro i hi
  rw [td_c5, pk_un (by omega)]
  exact h i hi
/-- an empty delta copied over an empty slot -/
theorem td_cp {f : Nat → Int32} {j : Nat} (hj : j < 4) (h : ∀ i, i < 4 → f i = 0) (h5 : f 5 = 0) : ∀ i, i < 4 → upd f (nI j).toNatClampNeg (f (5 : Int32).toNatClampNeg) i = 0 := by
  intro i hi
  rw [nI_clamp (show j < 2 ^ 31 by omega), td_c5, h5]
  by_cases e : i = j
  · rw [e, pk_us]
  · rw [pk_un e]
    exact h i hi
theorem td_cq {f : Nat → Int32} {j : Nat} (hj : j < 4) (h5 : f 5 = 0) : upd f (nI j).toNatClampNeg (f (5 : Int32).toNatClampNeg) (5 : Int32).toNatClampNeg = 0 := by
  rw [nI_clamp (show j < 2 ^ 31 by omega), td_c5, pk_un (by omega), h5]
theorem td_copy {post : St2 → Prop} {f0 f1 f2 f3 f4 f5 f6 f7 f8 f9 : Int32} {a1 a2 a3 a4 a5 a6 a7 a8 a9 : Nat → Int32} {j : Nat} (hj : j < 4) (h3 : a3 5 = 0) (h4 : a4 5 = 0)
    (H : post (f0, f1, f2, f3, f4, f5, f6, f7, f8, f9, upd a1 (nI j).toNatClampNeg (a1 (5 : Int32).toNatClampNeg), upd a2 (nI j).toNatClampNeg (a2 (5 : Int32).toNatClampNeg), upd a3 (nI j).toNatClampNeg (a3 (5 : Int32).toNatClampNeg), upd a4 (nI j).toNatClampNeg (a4 (5 : Int32).toNatClampNeg), a5, a6, a7, a8, a9)) :
    wpX_copy post (f0, f1, f2, f3, f4, f5, f6, f7, f8, f9, a1, a2, a3, a4, a5, a6, a7, a8, a9) 5 (nI j) := by
  have p5 : vp_in 5 6 := pk_in 5 6 (by omega)
  have pj : vp_in (nI j) 6 := pk_in j 6 (by omega)
  exact ⟨p5, pj, nm_e ⟨p5, pj, nm_e ⟨p5, pj, nm_e ⟨p5, pj, nm_e ⟨1, p5, br_t (td_le0 (td_cq hj h3)) ⟨1, p5, br_t (td_le0 (td_cq hj h4)) H⟩⟩⟩⟩⟩⟩
theorem td_apply {post : Int32 → St2 → Prop} {u : St2} {a b : Int32} (h : td_z u) (H : ∀ v, td_z v → post (td_ra a b) v) : wpX_apply post u a b := by
  obtain ⟨f0, f1, f2, f3, f4, f5, f6, f7, f8, f9, a1, a2, a3, a4, a5, a6, a7, a8, a9⟩ := u
  obtain ⟨h1, h5, h6, h7, h8⟩ := h
  unfold wpX_apply
  refine td_slot (br_c (fun g => ?_) (fun g => td_slot (br_c (fun g2 => ?_) (fun g2 => ?_))))
  · have e : td_ra a b = -1 := by unfold td_ra; exact td_i1 g
    rw [e] at H
    exact H _ ⟨h1, h5, h6, h7, h8⟩
  · have e : td_ra a b = -1 := by unfold td_ra; exact td_i2 g g2
    rw [e] at H
    exact H _ ⟨h1, h5, h6, h7, h8⟩
  · have e : td_ra a b = 0 := by unfold td_ra; exact td_i3 g g2
    rw [e] at H
    obtain ⟨j, hj, rfl⟩ := td_in_of g
    obtain ⟨i, hi, rfl⟩ := td_in_of g2
    have p5 : vp_in 5 6 := pk_in 5 6 (by omega)
    have pj : vp_in (nI j) 6 := pk_in j 6 (by omega)
    have e2 : a2 (nI j).toNatClampNeg = 0 := td_g0 hj h6
    refine ⟨pj, br_t (h1.trans (td_g0 hj h5).symm) ⟨pj, p5, nm_e ⟨p5, nm_e ⟨p5, nm_e ⟨p5, nm_e (nm_e ⟨1, pj, br_t (td_le0 (td_g0 hj (td_n5 h7))) ⟨1, br_t (td_le0 rfl) ?_⟩⟩)⟩⟩⟩⟩⟩
    refine td_copy hi td_u5 td_u5 (H _ ⟨rfl, td_cp hi (td_n5 h5) ?_, td_cp hi (td_n5 h6) td_u5, td_cp hi (td_n5 h7) td_u5, td_cp hi (td_n5 h8) td_u5⟩)
    rw [td_u5, e2]
theorem td_inl {post : Int32 → Prop} {u : St2} {a : Int32} (h : td_z u) (H : post (td_ri a)) : wpX_inLength post u a := by
  obtain ⟨f0, f1, f2, f3, f4, f5, f6, f7, f8, f9, a1, a2, a3, a4, a5, a6, a7, a8, a9⟩ := u
  obtain ⟨h1, h5, h6, h7, h8⟩ := h
  unfold wpX_inLength
  refine td_slot (br_c (fun g => ?_) (fun g => ?_))
  · have e : td_ri a = -1 := by unfold td_ri; exact if_pos g
    rw [e] at H
    exact H
  · have e : td_ri a = 0 := by unfold td_ri; exact if_neg g
    rw [e] at H
    obtain ⟨j, hj, rfl⟩ := td_in_of g
    exact ⟨pk_in j 6 (by omega), ek_v (P := post) (td_g0 hj h5) H⟩
end
section
theorem td_of (m k c a b : Int32) : wpL_lawOf (fun r _ => r = 1) 10 1259 () m k c a b := by
  refine ⟨by omega, by omega, 9, 1240, by omega, by omega, ?_⟩
  refine ⟨by omega, by omega, by omega, by omega, by omega, by omega, by omega, by omega, by omega, by omega, by omega, by omega, by omega, by omega, by omega, by omega, by omega, by omega, ?_⟩
  refine td_begin ⟨rfl, rfl, rfl, rfl, rfl, fun _ _ => rfl, fun _ _ => rfl, fun _ _ => rfl, fun _ _ => rfl⟩ (fun v hv => ?_)
  obtain ⟨f0, f1, f2, f3, f4, f5, f6, f7, f8, f9, a1, a2, a3, a4, a5, a6, a7, a8, a9⟩ := v
  refine td_keep (td_sz40 m) hv (fun w q hq hw => ?_)
  obtain ⟨g0, g1, g2, g3, g4, g5, g6, g7, g8, g9, b1, b2, b3, b4, b5, b6, b7, b8, b9⟩ := w
  refine td_drop hq hw (fun x hx => ?_)
  obtain ⟨i0, i1, i2, i3, i4, i5, i6, i7, i8, i9, c1, c2, c3, c4, c5, c6, c7, c8, c9⟩ := x
  refine td_same hx (td_apply hx (fun y hy => ?_))
  obtain ⟨j0, j1, j2, j3, j4, j5, j6, j7, j8, j9, d1, d2, d3, d4, d5, d6, d7, d8, d9⟩ := y
  refine td_inl hy ?_
  exact br_c (fun g => td_76 (by unfold td_sz; exact (td_i1 g).symm)) (fun g => br_c (fun g2 => td_76 (by unfold td_sz; exact (td_i2 g g2).symm)) (fun g2 => td_76 (by unfold td_sz; exact (td_i3 g g2).symm)))
theorem td_cell {post : Int32 → Prop} {L : Nat} {xs : Nat → Int32} (hL : L ≤ 5) (i : Nat) {p : Int32} (hp : p = nI i) (hi : i < 5) (H : ∀ r, post r) : wpL_cellAt post L xs () p :=
  pk_le L i (fun _ => H _) (fun z => ⟨pk_in i L z hp, H _⟩) rfl hp
theorem i_vc (xs : Nat → Int32) (L : Nat) (hL : L ≤ 5) : wpL_law (fun r => r = 1) L xs := by
  unfold wpL_law
  refine td_cell hL 0 rfl (by omega) (fun r1 => ?_)
  refine td_cell hL 1 rfl (by omega) (fun r2 => ?_)
  refine td_cell hL 2 rfl (by omega) (fun r3 => ?_)
  refine td_cell hL 3 rfl (by omega) (fun r4 => ?_)
  refine td_cell hL 4 rfl (by omega) (fun r5 => ?_)
  exact ⟨10, 1259, by omega, by omega, td_of r1 r2 r3 r4 r5⟩
end
