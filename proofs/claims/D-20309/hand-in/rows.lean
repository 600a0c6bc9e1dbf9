section
/-! the picture: what both classes answer at z -/
def sr_val (z : Int32) : Int32 := if z ≤ (-10) then (-1000) else if 10 ≤ z then 1000 else z
theorem sr_lo {z : Int32} (h : z ≤ (-10)) : sr_val z = (-1000) := if_pos h
theorem sr_hi {z : Int32} (h : ¬ z ≤ (-10)) (h2 : 10 ≤ z) : sr_val z = 1000 := (if_neg h).trans (if_pos h2)
theorem sr_mid {z : Int32} (h : ¬ z ≤ (-10)) (h2 : ¬ 10 ≤ z) : sr_val z = z := (if_neg h).trans (if_neg h2)
/-! the order of Int32, through its whole numbers -/
theorem sr_ten : (10 : Int32).toInt = 10 := by decide
theorem sr_mten : (-10 : Int32).toInt = (-10) := by decide
theorem sr_zero : (0 : Int32).toInt = 0 := by decide
/-- above ten: not below minus ten, and at least ten -/
theorem sr_big {z : Int32} (h : ¬ z ≤ 10) : ¬ z ≤ (-10) ∧ 10 ≤ z := by
  rw [Int32.le_iff_toInt_le, sr_ten] at h
  rw [Int32.le_iff_toInt_le, Int32.le_iff_toInt_le, sr_ten, sr_mten]
  omega
theorem sr_small {z : Int32} (h : ¬ (-10) ≤ z) : z ≤ (-10) := by
  rw [Int32.le_iff_toInt_le, sr_mten] at h
  rw [Int32.le_iff_toInt_le, sr_mten]
  omega
theorem sr_inner {z : Int32} (h1 : z ≤ 10) (h2 : (-10) ≤ z) (n1 : ¬ z = 10) (n2 : ¬ z = (-10)) : ¬ z ≤ (-10) ∧ ¬ 10 ≤ z := by
  rw [← Int32.toInt_inj, sr_ten] at n1
  rw [← Int32.toInt_inj, sr_mten] at n2
  rw [Int32.le_iff_toInt_le, sr_ten] at h1
  rw [Int32.le_iff_toInt_le, sr_mten] at h2
  rw [Int32.le_iff_toInt_le, Int32.le_iff_toInt_le, sr_ten, sr_mten]
  omega
theorem sr_neg {z : Int32} (h : z ≤ (-10)) : ¬ 0 ≤ z := by
  rw [Int32.le_iff_toInt_le, sr_mten] at h
  rw [Int32.le_iff_toInt_le, sr_zero]
  omega
theorem sr_pos {z : Int32} (h : 10 ≤ z) : 0 ≤ z := by
  rw [Int32.le_iff_toInt_le, sr_ten] at h
  rw [Int32.le_iff_toInt_le, sr_zero]
  omega
end
section
/-! a lemma a method -/
theorem sr_cell {post : Int32 → Prop} {L : Nat} {xs : Nat → Int32} {p1 : Int32} (k : Nat) (hk : k ≤ 1) (hp : p1 = nI k) (hL : L ≤ 2) (h : ∀ r, post r) : wpL_cellAt post L xs () p1 :=
  pk_le L k (fun _ => h _) (fun z => ⟨hp ▸ vp_in_nI z (by omega), h _⟩) rfl hp (by omega) (by omega)
theorem sr_x11 {post : Int32 → Prop} {z : Int32} (h : post (sr_val z)) : wpX11_betweenLimits post () z := by
  unfold wpX11_betweenLimits wpX4_clip wpX4_raw
  refine br_c (fun h1 => br_c (fun h2 => br_c (fun e => ?_) (fun e => br_c (fun e2 => ?_) (fun e2 => ?_))) (fun h2 => br_f (by decide) (br_t rfl ?_))) (fun h1 => br_t rfl ?_)
  · subst e
    exact (sr_hi (z := 10) (by decide) (by decide)) ▸ h
  · subst e2
    exact (sr_lo (z := -10) (by decide)) ▸ h
  · have hi := sr_inner h1 h2 e e2
    rw [sr_mid hi.1 hi.2] at h
    exact h
  · rw [sr_lo (sr_small h2)] at h
    exact h
  · have hb := sr_big h1
    rw [sr_hi hb.1 hb.2] at h
    exact h
theorem sr_x12 {post : Int32 → Prop} {z : Int32} (h : post (sr_val z)) : wpX12_betweenLimits post () z := by
  unfold wpX12_betweenLimits wX12_betweenLimits_14
  refine br_c (fun h1 => br_f (sr_neg h1) (nm_r (e' := (-1000)) (by decide) ?_)) (fun h1 => br_c (fun h2 => br_t (sr_pos h2) ?_) (fun h2 => ?_))
  · rw [sr_lo h1] at h
    exact h
  · rw [sr_hi h1 h2] at h
    exact h
  · rw [sr_mid h1 h2] at h
    exact h
theorem sr_of (z : Int32) : wL_lawOf_17 (fun r => r = 1) z := by
  unfold wL_lawOf_17
  exact sr_x11 (sr_x12 (br_t rfl rfl))
theorem sr_lawOf (x k : Int32) : wpL_lawOf (fun r => r = 1) () x k := br_c (fun _ => sr_of _) (fun _ => sr_of _)
theorem i_vc (xs : Nat → Int32) (L : Nat) (hL : L ≤ 2) : wpL_law (fun r => r = 1) L xs := by
  unfold wpL_law
  exact sr_cell 0 (by omega) rfl hL (fun a => sr_cell 1 (by omega) rfl hL (fun b => sr_lawOf a b))
end
