section
/-- the three tables of the reference, cell by cell -/
def ks_K (K : Nat → Int32) : Prop := K 0 = 3357 ∧ K 1 = 3211 ∧ K 2 = (-29495) ∧ K 3 = (-26641) ∧ K 4 = (-29383) ∧ K 5 = (-13519)
def ks_L (L : Nat → Int32) : Prop := L 0 = 2 ∧ L 1 = 2 ∧ L 2 = 3 ∧ L 3 = 3 ∧ L 4 = 4 ∧ L 5 = 5
def ks_F (F : Nat → Int32) : Prop := F 0 = 105 ∧ F 1 = 100 ∧ F 2 = 102 ∧ F 3 = 105 ∧ F 4 = 101 ∧ F 5 = 119
/-- the component's answer at end(), by its switch -/
def ks_x (h l f : Int32) : Int32 :=
  if h = (-29495) then (if l = 3 then (if f = 102 then 3 else 0) else 0) else
  if h = (-29383) then (if l = 4 then (if f = 101 then 5 else 0) else 0) else
  if h = (-26641) then (if l = 3 then (if f = 105 then 4 else 0) else 0) else
  if h = (-13519) then (if l = 5 then (if f = 119 then 6 else 0) else 0) else
  if h = 3211 then (if l = 2 then (if f = 100 then 2 else 0) else 0) else
  if h = 3357 then (if l = 2 then (if f = 105 then 1 else 0) else 0) else 0
/-- the reference's answer at end(), by its scan: the last row that fits -/
def ks_y (h l f : Int32) : Int32 :=
  if (-13519) = h ∧ 5 = l ∧ 119 = f then nI 6 else
  if (-29383) = h ∧ 4 = l ∧ 101 = f then nI 5 else
  if (-26641) = h ∧ 3 = l ∧ 105 = f then nI 4 else
  if (-29495) = h ∧ 3 = l ∧ 102 = f then nI 3 else
  if 3211 = h ∧ 2 = l ∧ 100 = f then nI 2 else
  if 3357 = h ∧ 2 = l ∧ 105 = f then nI 1 else 0
theorem ks_one (c d e n : Int32) {h l f : Int32} (hc : h = c) : (if c = h ∧ d = l ∧ e = f then n else 0) = (if l = d then (if f = e then n else 0) else 0) := by
  by_cases hl : l = d
  · by_cases hf : f = e
    · rw [if_pos ⟨hc.symm, hl.symm, hf.symm⟩, if_pos hl, if_pos hf]
    · rw [if_neg (fun z => hf z.2.2.symm), if_pos hl, if_neg hf]
  · rw [if_neg (fun z => hl z.2.1.symm), if_neg hl]
theorem ks_no {c d e n r : Int32} {h l f : Int32} (hc : ¬ h = c) : (if c = h ∧ d = l ∧ e = f then n else r) = r := if_neg (fun z => hc z.1.symm)
theorem ks_xy (h l f : Int32) : ks_y h l f = ks_x h l f := by
  have e1 : nI 1 = 1 := by decide +kernel
  have e2 : nI 2 = 2 := by decide +kernel
  have e3 : nI 3 = 3 := by decide +kernel
  have e4 : nI 4 = 4 := by decide +kernel
  have e5 : nI 5 = 5 := by decide +kernel
  have e6 : nI 6 = 6 := by decide +kernel
  unfold ks_x ks_y
  rw [e1, e2, e3, e4, e5, e6]
  have ne : ∀ {c d : Int32}, h = c → ¬ c = d → ¬ h = d := fun e n z => n (e.symm.trans z)
  by_cases h1 : h = (-29495)
  · rw [if_pos h1, ks_no (c := (-13519)) (ne (d := (-13519)) h1 (by decide)), ks_no (c := (-29383)) (ne (d := (-29383)) h1 (by decide)), ks_no (c := (-26641)) (ne (d := (-26641)) h1 (by decide)), ks_no (c := 3211) (ne (d := 3211) h1 (by decide)), ks_no (c := 3357) (ne (d := 3357) h1 (by decide))]
    exact ks_one _ _ _ _ h1
  rw [if_neg h1]
  by_cases h2 : h = (-29383)
  · rw [if_pos h2, ks_no (c := (-13519)) (ne (d := (-13519)) h2 (by decide)), ks_no (c := (-26641)) (ne (d := (-26641)) h2 (by decide)), ks_no (c := (-29495)) h1, ks_no (c := 3211) (ne (d := 3211) h2 (by decide)), ks_no (c := 3357) (ne (d := 3357) h2 (by decide))]
    exact ks_one _ _ _ _ h2
  rw [if_neg h2]
  by_cases h3 : h = (-26641)
  · rw [if_pos h3, ks_no (c := (-13519)) (ne (d := (-13519)) h3 (by decide)), ks_no (c := (-29383)) h2, ks_no (c := (-29495)) h1, ks_no (c := 3211) (ne (d := 3211) h3 (by decide)), ks_no (c := 3357) (ne (d := 3357) h3 (by decide))]
    exact ks_one _ _ _ _ h3
  rw [if_neg h3]
  by_cases h4 : h = (-13519)
  · rw [if_pos h4, ks_no (c := (-29383)) h2, ks_no (c := (-26641)) h3, ks_no (c := (-29495)) h1, ks_no (c := 3211) (ne (d := 3211) h4 (by decide)), ks_no (c := 3357) (ne (d := 3357) h4 (by decide))]
    exact ks_one _ _ _ _ h4
  rw [if_neg h4]
  by_cases h5 : h = 3211
  · rw [if_pos h5, ks_no (c := (-13519)) h4, ks_no (c := (-29383)) h2, ks_no (c := (-26641)) h3, ks_no (c := (-29495)) h1, ks_no (c := 3357) (ne (d := 3357) h5 (by decide))]
    exact ks_one _ _ _ _ h5
  rw [if_neg h5]
  by_cases h6 : h = 3357
  · rw [if_pos h6, ks_no (c := (-13519)) h4, ks_no (c := (-29383)) h2, ks_no (c := (-26641)) h3, ks_no (c := (-29495)) h1, ks_no (c := 3211) h5]
    exact ks_one _ _ _ _ h6
  rw [if_neg h6]
  rw [ks_no (c := (-13519)) h4, ks_no (c := (-29383)) h2, ks_no (c := (-26641)) h3, ks_no (c := (-29495)) h1, ks_no (c := 3211) h5, ks_no (c := 3357) h6]
/-- a branch whose two sides answer the two sides of an 'if' -/
theorem ks_b {Q : Int32 → Prop} {c A B : Prop} [Decidable c] {a b : Int32} (hp : Q (if c then a else b)) (ha : Q a → A) (hb : Q b → B) : (c → A) ∧ (¬ c → B) :=
  ⟨fun z => ha (by rw [if_pos z] at hp; exact hp), fun z => hb (by rw [if_neg z] at hp; exact hp)⟩
theorem ks_b2 {Q : Int32 → Prop} {c d A B C : Prop} [Decidable c] [Decidable d] {a : Int32} (hp : Q (if c then (if d then a else 0) else 0)) (ha : Q a → A) (hb : Q 0 → B) (hc : Q 0 → C) : (c → (d → A) ∧ (¬ d → B)) ∧ (¬ c → C) :=
  ks_b (Q := Q) hp (fun p => ks_b (Q := Q) p ha hb) hc
theorem ks_X {post : Int32 → SX → Prop} {h l f : Int32} (hp : post (ks_x h l f) (0, 0, 0)) : wpX_end post (h, l, f) := by
  unfold ks_x at hp
  unfold wpX_end
  dsimp only
  unfold wX_end_199
  refine ks_b (Q := fun r => post r (0, 0, 0)) hp (fun p => ks_b2 (Q := fun r => post r (0, 0, 0)) p id id id) fun q => ?_
  refine ks_b (Q := fun r => post r (0, 0, 0)) q (fun p => ks_b2 (Q := fun r => post r (0, 0, 0)) p id id id) fun q => ?_
  refine ks_b (Q := fun r => post r (0, 0, 0)) q (fun p => ks_b2 (Q := fun r => post r (0, 0, 0)) p id id id) fun q => ?_
  refine ks_b (Q := fun r => post r (0, 0, 0)) q (fun p => ks_b2 (Q := fun r => post r (0, 0, 0)) p id id id) fun q => ?_
  refine ks_b (Q := fun r => post r (0, 0, 0)) q (fun p => ks_b2 (Q := fun r => post r (0, 0, 0)) p id id id) fun q => ?_
  exact ks_b (Q := fun r => post r (0, 0, 0)) q (fun p => ks_b2 (Q := fun r => post r (0, 0, 0)) p id id id) id
theorem ks_step {post : Int32 → SY → Prop} {h l f : Int32} {K L F : Nat → Int32} {n : Nat} (j : Nat) {x1 : Int32} (hj : j < 6)
    (H : wY_end_4 post h l f K L F n (if K j = h ∧ L j = l ∧ F j = f then nI (j + 1) else x1) (nI (j + 1))) : wY_end_4 post h l f K L F (n + 1) x1 (nI j) := by
  have e : (nI j).toNatClampNeg = j := nI_clamp (by omega)
  have h6 : ¬ (Int32.ofNat 6) ≤ nI j := nI_ge (b := 6) hj (by decide)
  have hi : vp_in (nI j) 6 := vp_in_nI hj (by decide)
  unfold wY_end_4
  rw [e, nI_1]
  by_cases hk : K j = h
  · by_cases hl : L j = l
    · by_cases hf : F j = f
      · rw [if_pos ⟨hk, hl, hf⟩] at H
        exact br_f h6 ⟨hi, br_t hk ⟨hi, br_t hl ⟨hi, br_t hf fun y ey z ez => by rw [ey, ez]; exact H⟩⟩⟩
      · rw [if_neg (fun z => hf z.2.2)] at H
        exact br_f h6 ⟨hi, br_t hk ⟨hi, br_t hl ⟨hi, br_f hf fun y ey => by rw [ey]; exact H⟩⟩⟩
    · rw [if_neg (fun z => hl z.2.1)] at H
      exact br_f h6 ⟨hi, br_t hk ⟨hi, br_f hl fun y ey => by rw [ey]; exact H⟩⟩
  · rw [if_neg (fun z => hk z.1)] at H
    exact br_f h6 ⟨hi, br_f hk fun y ey => by rw [ey]; exact H⟩
theorem ks_Y {post : Int32 → SY → Prop} {h l f : Int32} {K L F : Nat → Int32} (hK : ks_K K) (hL : ks_L L) (hF : ks_F F)
    (hp : post (ks_y h l f) (0, 0, 0, K, L, F)) : wY_end_4 post h l f K L F 7 0 0 := by
  obtain ⟨k0, k1, k2, k3, k4, k5⟩ := hK
  obtain ⟨l0, l1, l2, l3, l4, l5⟩ := hL
  obtain ⟨f0, f1, f2, f3, f4, f5⟩ := hF
  have H : wY_end_4 post h l f K L F 7 0 (nI 0) := by
    refine ks_step 0 (by decide) (ks_step 1 (by decide) (ks_step 2 (by decide) (ks_step 3 (by decide) (ks_step 4 (by decide) (ks_step 5 (by decide) ?_)))))
    rw [k0, k1, k2, k3, k4, k5, l0, l1, l2, l3, l4, l5, f0, f1, f2, f3, f4, f5]
    unfold wY_end_4
    exact br_t (Int32.le_refl _) hp
  rw [nI_0] at H
  exact H
/-- the casts: what a char or a short field takes -/
theorem ks_fc (v : Int32) : fits .char (.int (lw_u16 v)) = true := by
  have ⟨a, b⟩ := lw_u16_r v
  have h1 : (0 : Int32).toInt = 0 := by decide
  have h2 : (65535 : Int32).toInt = 65535 := by decide
  simp only [fits, Bool.and_eq_true, decide_eq_true_eq, Int32.le_iff_toInt_le, h1, h2]
  omega
theorem ks_ns (z : Int32) : narrow .short (.int z.toInt16.toInt32) = .int z.toInt16.toInt32 := congrArg Value.int (by simp)
theorem ks_fs (r : Int32) : fits .short (.int r.toInt16.toInt32) = true := by
  have ⟨a, b⟩ := lg_i2s_range r
  have h1 : (-32768 : Int32).toInt = -32768 := by decide
  have h2 : (32767 : Int32).toInt = 32767 := by decide
  simp only [fits, Bool.and_eq_true, decide_eq_true_eq, Int32.le_iff_toInt_le, h1, h2]
  omega
end
section
/-- the two objects hold the same hash, length and first char; the reference's tables are as its constructor laid them -/
def i_Rel (_ : Nat) (u : SX) (v : SY) : Prop :=
  ∃ h l f : Int32, ∃ K L F : Nat → Int32, u = (h, l, f) ∧ v = (h, l, f, K, L, F) ∧ ks_K K ∧ ks_L L ∧ ks_F F
theorem i_up {k : Nat} {u : SX} {v : SY} (h : i_Rel k u v) : i_Rel (k + 2) u v := h
theorem i_vc0 : wpX_init (fun u => wpY_init (fun v => i_Rel 0 u v)) := by
  unfold wpX_init wpY_init
  intro _ e1 _ e2 _ e3 _ e4 _ e5 _ e6 _ e7 _ e8 _ e9 _ e10 _ e11 _ e12 _ e13 _ e14 _ e15 _ e16 _ e17 _ e18
  subst e1 e2 e3 e4 e5 e6 e7 e8 e9 e10 e11 e12 e13 e14 e15 e16 e17 e18
  refine ⟨0, 0, 0, _, _, _, rfl, rfl, ?_, ?_, ?_⟩
  · refine ⟨?_, ?_, ?_, ?_, ?_, ?_⟩ <;> decide +kernel
  · refine ⟨?_, ?_, ?_, ?_, ?_, ?_⟩ <;> decide +kernel
  · refine ⟨?_, ?_, ?_, ?_, ?_, ?_⟩ <;> decide +kernel
theorem i_vc_letter {k : Nat} {u : SX} {v : SY} (I : i_Rel k u v) (hk : k + 2 ≤ 1024) (v1 : Int32) : wpX_letter (fun r u' => wpY_letter (fun r' v' => r' = r ∧ i_Rel (k + 2) u' v') v (lw_u16 v1)) u (lw_u16 v1) := by
  obtain ⟨h, l, f, K, L, F, rfl, rfl, hK, hL, hF⟩ := I
  have nc := lw_u16_n v1
  have fc := ks_fc v1
  by_cases z : l = 0
  · refine br_t z ⟨nc, fc, ?_⟩
    intro l2 el h3 eh
    have ns : narrow .short (.int h3) = .int h3 := by rw [eh]; exact ks_ns _
    have fs : fits .short (.int h3) = true := by rw [eh]; exact ks_fs _
    refine ⟨ns, fs, ?_⟩
    intro l4 el4
    refine br_t z ⟨nc, fc, ?_⟩
    intro h5 eh5
    cases el4.trans el.symm
    cases eh5.trans eh.symm
    exact ⟨ns, fs, eh.symm, h3, l2, lw_u16 v1, K, L, F, rfl, rfl, hK, hL, hF⟩
  · refine br_f z ?_
    intro l2 el h3 eh
    have ns : narrow .short (.int h3) = .int h3 := by rw [eh]; exact ks_ns _
    have fs : fits .short (.int h3) = true := by rw [eh]; exact ks_fs _
    refine ⟨ns, fs, ?_⟩
    intro l4 el4
    refine br_f z ?_
    intro h5 eh5
    cases el4.trans el.symm
    cases eh5.trans eh.symm
    exact ⟨ns, fs, eh.symm, h3, l2, f, K, L, F, rfl, rfl, hK, hL, hF⟩
theorem i_vc_end {k : Nat} {u : SX} {v : SY} (I : i_Rel k u v) (hk : k + 2 ≤ 1024) : wpX_end (fun r u' => wpY_end (fun r' v' => r' = r ∧ i_Rel (k + 2) u' v') v) u := by
  obtain ⟨h, l, f, K, L, F, rfl, rfl, hK, hL, hF⟩ := I
  refine ks_X ?_
  exact Exists.intro 7 (ks_Y hK hL hF ⟨ks_xy h l f, 0, 0, 0, K, L, F, rfl, rfl, hK, hL, hF⟩)
theorem i_vc_length {k : Nat} {u : SX} {v : SY} (I : i_Rel k u v) (hk : k + 2 ≤ 1024) : wpX_length (fun r => wpY_length (fun r' => r' = r ∧ i_Rel (k + 2) u v) v) u := by
  obtain ⟨h, l, f, K, L, F, rfl, rfl, hK, hL, hF⟩ := I
  exact ⟨rfl, h, l, f, K, L, F, rfl, rfl, hK, hL, hF⟩
end
