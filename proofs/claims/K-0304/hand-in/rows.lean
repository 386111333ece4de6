section
/-! Plain laws: what an unsigned shift to the right says of a long; a char that is one of four letters -/
theorem sr_sh (x : Int64) (d : UInt64) (k : Nat) (hd : d.toNat % 64 = k) : (x.toUInt64 >>> d).toInt64 = 0 ↔ x.toUInt64.toNat / 2 ^ k = 0 := by
  have e : (x.toUInt64 >>> d).toNat = x.toUInt64.toNat / 2 ^ k := by
    rw [UInt64.toNat_shiftRight, hd, Nat.shiftRight_eq_div_pow]
  constructor
  · intro h
    have h2 : x.toUInt64 >>> d = 0 := congrArg Int64.toUInt64 h
    rw [← e, h2]; rfl
  · intro h
    have h2 : x.toUInt64 >>> d = 0 := UInt64.toNat_inj.mp (e.trans h)
    rw [h2]; rfl
theorem sr_ti (x : Int64) : x.toInt = if 2 * x.toUInt64.toNat < 2 ^ 64 then (x.toUInt64.toNat : Int) else (x.toUInt64.toNat : Int) - ((2 ^ 64 : Nat) : Int) := BitVec.toInt_eq_toNat_cond _
theorem sr_lt (x : Int64) : x.toUInt64.toNat < 2 ^ 64 := x.toUInt64.toNat_lt
theorem sr_c31 : ((31 : Int32).toInt64.toUInt64 &&& Int64.toUInt64 63).toNat % 64 = 31 := by decide
theorem sr_c32 : ((32 : Int32).toInt64.toUInt64 &&& Int64.toUInt64 63).toNat % 64 = 32 := by decide
theorem sr_c63 : ((63 : Int32).toInt64.toUInt64 &&& Int64.toUInt64 63).toNat % 64 = 63 := by decide
theorem sr_z : (0 : Int64).toInt = 0 := by decide
theorem sr_m31 : (2147483647 : Int64).toInt = 2147483647 := by decide
theorem sr_m32 : (4294967295 : Int64).toInt = 4294967295 := by decide
theorem sr_31 (x : Int64) : (x.toUInt64 >>> ((31 : Int32).toInt64.toUInt64 &&& Int64.toUInt64 63)).toInt64 = 0 ↔ ¬ x < 0 ∧ ¬ 2147483647 < x := by
  rw [sr_sh x _ 31 sr_c31, Int64.lt_iff_toInt_lt, Int64.lt_iff_toInt_lt, sr_z, sr_m31, sr_ti x]
  have h := sr_lt x
  generalize x.toUInt64.toNat = n at h ⊢
  split <;> omega
theorem sr_32 (x : Int64) : (x.toUInt64 >>> ((32 : Int32).toInt64.toUInt64 &&& Int64.toUInt64 63)).toInt64 = 0 ↔ ¬ x < 0 ∧ ¬ 4294967295 < x := by
  rw [sr_sh x _ 32 sr_c32, Int64.lt_iff_toInt_lt, Int64.lt_iff_toInt_lt, sr_z, sr_m32, sr_ti x]
  have h := sr_lt x
  generalize x.toUInt64.toNat = n at h ⊢
  split <;> omega
theorem sr_63 (x : Int64) : (x.toUInt64 >>> ((63 : Int32).toInt64.toUInt64 &&& Int64.toUInt64 63)).toInt64 = 0 ↔ ¬ x < 0 := by
  rw [sr_sh x _ 63 sr_c63, Int64.lt_iff_toInt_lt, sr_z, sr_ti x]
  have h := sr_lt x
  generalize x.toUInt64.toNat = n at h ⊢
  split <;> omega
/-- a char that the class keeps: the store keeps it whole -/
def sr_Ch (p : Int32) : Prop := narrow .char (.int p) = .int p ∧ fits .char (.int p) = true ∧ vp_nar .char p = p
theorem sr_chu : sr_Ch 117 := ⟨rfl, by decide, by rw [vp_nar_char]; decide⟩
theorem sr_chU : sr_Ch 85 := ⟨rfl, by decide, by rw [vp_nar_char]; decide⟩
theorem sr_chl : sr_Ch 108 := ⟨rfl, by decide, by rw [vp_nar_char]; decide⟩
theorem sr_chL : sr_Ch 76 := ⟨rfl, by decide, by rw [vp_nar_char]; decide⟩
theorem sr_us (f : Nat → Int32) (k : Nat) (x : Int32) : upd f k x k = x := if_pos rfl
end
section
/-- hasU = uns (0 or 1), lCount = ls (0, 1, 2), len = uns + ls; and while one l is read, the last char stands last in seen -/
def i_Rel (_ : Nat) (u : SX) (v : SY) : Prop :=
  ∃ (h l c s : Int32) (a : Nat → Int32), u = (h, l, c) ∧ v = (s, l, h, a) ∧ (h = 0 ∨ h = 1) ∧ (l = 0 ∨ l = 1 ∨ l = 2) ∧ s = h + l ∧ (l = 1 → a (s - 1).toNatClampNeg = c)
theorem i_up {k : Nat} {u : SX} {v : SY} (h : i_Rel k u v) : i_Rel (k + 3) u v := h
theorem i_vc0 : wpX_init (fun u => wpY_init (fun v => i_Rel 0 u v)) :=
  ⟨0, 0, 0, 0, fun _ => 0, rfl, rfl, Or.inl rfl, Or.inl rfl, by decide, fun h => absurd h (by decide)⟩
/-- one store into seen, behind a step that has raised uns or ls -/
theorem sr_put {p h l s : Int32} {a : Nat → Int32} (hp : sr_Ch p) (hs : vp_in s 3) (post : Int32 → SY → Prop) (H : post 1 (s + 1, l, h, upd a s.toNatClampNeg p)) : wY_feed_111 post p s l h a :=
  nm_e ⟨hs, nm_r (congrArg (upd a s.toNatClampNeg) hp.2.2) H⟩
theorem sr_rel {k : Nat} {p h l s : Int32} {a : Nat → Int32} (hh : h = 0 ∨ h = 1) (hl : l = 0 ∨ l = 1 ∨ l = 2) (e : s + 1 = h + l) : i_Rel k (h, l, p) (s + 1, l, h, upd a s.toNatClampNeg p) :=
  ⟨h, l, p, s + 1, _, rfl, rfl, hh, hl, e, fun _ => by
    have e2 : s + 1 - 1 = s := by grind
    rw [e2, sr_us]⟩
/-- u or U: one outcome for both sides -/
theorem sr_u {k : Nat} {p h l c s : Int32} {a : Nat → Int32} (hp : sr_Ch p) (hh : h = 0 ∨ h = 1) (hl : l = 0 ∨ l = 1 ∨ l = 2) (hs : s = h + l) (hc : l = 1 → a (s - 1).toNatClampNeg = c) :
    ∃ (r : Int32) (u : SX) (v : SY), i_Rel k u v ∧ (∀ post : Int32 → SX → Prop, post r u → wX_feed_12 post p h l c) ∧ (∀ post : Int32 → SY → Prop, post r v → wY_feed_44 post p s l h a) := by
  rcases hh with rfl | rfl
  · have hi : vp_in s 3 := by
      rw [vp_in_iff, hs]; rcases hl with rfl | rfl | rfl <;> decide
    exact ⟨1, (1, l, p), (s + 1, l, 1, upd a s.toNatClampNeg p), sr_rel (Or.inr rfl) hl (by rw [hs]; grind), fun post H => br_t rfl ⟨hp.1, hp.2.1, H⟩, fun post H => br_t rfl (sr_put hp hi post H)⟩
  · exact ⟨0, (1, l, c), (s, l, 1, a), ⟨1, l, c, s, a, rfl, rfl, Or.inr rfl, hl, hs, hc⟩, fun post H => br_f (by decide) H, fun post H => br_f (by decide) H⟩
/-- l or L: one outcome for both sides -/
theorem sr_l {k : Nat} {p h l c s : Int32} {a : Nat → Int32} (hp : sr_Ch p) (hh : h = 0 ∨ h = 1) (hl : l = 0 ∨ l = 1 ∨ l = 2) (hs : s = h + l) (hc : l = 1 → a (s - 1).toNatClampNeg = c) :
    ∃ (r : Int32) (u : SX) (v : SY), i_Rel k u v ∧ (∀ post : Int32 → SX → Prop, post r u → wX_feed_45 post p h l c) ∧ (∀ post : Int32 → SY → Prop, post r v → wY_feed_61 post p s l h a) := by
  rcases hl with rfl | rfl | rfl
  · have hi : vp_in s 3 := by
      rw [vp_in_iff, hs]; rcases hh with rfl | rfl <;> decide
    exact ⟨1, (h, 1, p), (s + 1, 1, h, upd a s.toNatClampNeg p), sr_rel hh (Or.inr (Or.inl rfl)) (by rw [hs]; grind), fun post H => br_t rfl ⟨hp.1, hp.2.1, H⟩, fun post H => br_t (by decide) (br_f (by decide) (nm_r (e' := 1) (by decide) (sr_put hp hi post H)))⟩
  · have hi : vp_in s 3 := by
      rw [vp_in_iff, hs]; rcases hh with rfl | rfl <;> decide
    have hj : vp_in (s - 1) 3 := by
      rw [vp_in_iff, hs]; rcases hh with rfl | rfl <;> decide
    have ha : a (s - 1).toNatClampNeg = c := hc rfl
    by_cases z : c = p
    · exact ⟨1, (h, 2, p), (s + 1, 2, h, upd a s.toNatClampNeg p), sr_rel hh (Or.inr (Or.inr rfl)) (by rw [hs]; grind), fun post H => br_f (by decide) (br_t rfl (br_t z ⟨hp.1, hp.2.1, H⟩)), fun post H => br_t (by decide) (br_t rfl ⟨hj, br_t (ha.trans z) (nm_r (e' := 2) (by decide) (sr_put hp hi post H))⟩)⟩
    · exact ⟨0, (h, 1, c), (s, 1, h, a), ⟨h, 1, c, s, a, rfl, rfl, hh, Or.inr (Or.inl rfl), hs, hc⟩, fun post H => br_f (by decide) (br_t rfl (br_f z H)), fun post H => br_t (by decide) (br_t rfl ⟨hj, br_f (fun q => z (ha.symm.trans q)) H⟩)⟩
  · exact ⟨0, (h, 2, c), (s, 2, h, a), ⟨h, 2, c, s, a, rfl, rfl, hh, Or.inr (Or.inr rfl), hs, hc⟩, fun post H => br_f (by decide) (br_f (by decide) H), fun post H => br_f (by decide) H⟩
theorem i_vc_feed {k : Nat} {u : SX} {v : SY} (I : i_Rel k u v) (hk : k + 3 ≤ 1536) (v1 : Int32) : wpX_feed (fun r u' => wpY_feed (fun r' v' => r' = r ∧ i_Rel (k + 3) u' v') v (lw_u16 v1)) u (lw_u16 v1) := by
  obtain ⟨h, l, c, s, a, rfl, rfl, hh, hl, hs, hc⟩ := I
  generalize lw_u16 v1 = p
  by_cases h1 : p = 117
  · obtain ⟨r, u, v, R, HX, HY⟩ := sr_u (k := k + 3) (p := p) (h1 ▸ sr_chu) hh hl hs hc
    refine br_t h1 (HX _ ?_)
    exact br_f (by rw [h1]; decide) (br_f (by rw [h1]; decide) (br_f (by rw [h1]; decide) (br_t h1 (HY _ ⟨rfl, R⟩))))
  by_cases h2 : p = 85
  · obtain ⟨r, u, v, R, HX, HY⟩ := sr_u (k := k + 3) (p := p) (h2 ▸ sr_chU) hh hl hs hc
    refine br_f h1 (br_t h2 (HX _ ?_))
    exact br_f (by rw [h2]; decide) (br_t h2 (HY _ ⟨rfl, R⟩))
  by_cases h3 : p = 108
  · obtain ⟨r, u, v, R, HX, HY⟩ := sr_l (k := k + 3) (p := p) (h3 ▸ sr_chl) hh hl hs hc
    refine br_f h1 (br_f h2 (br_t h3 (HX _ ?_)))
    exact br_f (by rw [h3]; decide) (br_f h2 (br_t h3 (HY _ ⟨rfl, R⟩)))
  by_cases h4 : p = 76
  · obtain ⟨r, u, v, R, HX, HY⟩ := sr_l (k := k + 3) (p := p) (h4 ▸ sr_chL) hh hl hs hc
    refine br_f h1 (br_f h2 (br_f h3 (br_t h4 (HX _ ?_))))
    exact br_t h4 (HY _ ⟨rfl, R⟩)
  · refine br_f h1 (br_f h2 (br_f h3 (br_f h4 ?_)))
    exact br_f h4 (br_f h2 (br_f h3 (br_f h1 ⟨rfl, h, l, c, s, a, rfl, rfl, hh, hl, hs, hc⟩)))
theorem i_vc_typeCode {k : Nat} {u : SX} {v : SY} (I : i_Rel k u v) (hk : k + 3 ≤ 1536) : wpX_typeCode (fun r => wpY_typeCode (fun r' => r' = r ∧ i_Rel (k + 3) u v) v) u := by
  have I' : i_Rel (k + 3) u v := I
  obtain ⟨h, l, c, s, a, rfl, rfl, hh, hl, hs, hc⟩ := I
  by_cases z : h = 0
  · exact br_t z (br_t z ⟨by rw [Int32.mul_comm], I'⟩)
  · exact br_f z (br_f z ⟨by rw [Int32.mul_comm], I'⟩)
theorem i_vc_reset {k : Nat} {u : SX} {v : SY} (I : i_Rel k u v) (hk : k + 3 ≤ 1536) : wpX_reset (fun r u' => wpY_reset (fun r' v' => r' = r ∧ i_Rel (k + 3) u' v') v) u := by
  obtain ⟨h, l, c, s, a, rfl, rfl, hh, hl, hs, hc⟩ := I
  have R : i_Rel (k + 3) (0, 0, 0) (0, 0, 0, a) := ⟨0, 0, 0, 0, a, rfl, rfl, Or.inl rfl, Or.inl rfl, by decide, fun h => absurd h (by decide)⟩
  unfold wpX_reset wpY_reset
  dsimp only
  by_cases z : h = 0
  · exact br_t z (br_t z ⟨by rw [Int32.mul_comm], R⟩)
  · exact br_f z (br_f z ⟨by rw [Int32.mul_comm], R⟩)
/-- fits: one answer for both sides -/
theorem sr_fits {h l c s : Int32} {a : Nat → Int32} (hh : h = 0 ∨ h = 1) (hl : l = 0 ∨ l = 1 ∨ l = 2) (x : Int64) :
    ∃ r : Int32, (∀ post : Int32 → Prop, post r → wpX_fits post (h, l, c) x) ∧ (∀ post : Int32 → Prop, post r → wpY_fits post (s, l, h, a) x) := by
  unfold wpX_fits wpY_fits wpX_typeCode wpY_typeCode wX_fits_54 wY_fits_80
  dsimp only
  rcases hh with rfl | rfl <;> rcases hl with rfl | rfl | rfl
  · by_cases z : (x.toUInt64 >>> ((31 : Int32).toInt64.toUInt64 &&& Int64.toUInt64 63)).toInt64 = 0
    · have q := (sr_31 x).mp z
      exact ⟨1, fun post H => br_t rfl (br_t (by decide) (br_t z H)), fun post H => br_t rfl (br_f (by decide) (br_f (by decide) (br_t (by decide) (br_f q.1 (br_f q.2 H)))))⟩
    · refine ⟨0, fun post H => br_t rfl (br_t (by decide) (br_f z H)), fun post H => br_t rfl (br_f (by decide) (br_f (by decide) (br_t (by decide) ?_)))⟩
      exact br_c (fun _ => H) fun q => br_c (fun _ => H) fun q2 => absurd ((sr_31 x).mpr ⟨q, q2⟩) z
  · by_cases z : (x.toUInt64 >>> ((63 : Int32).toInt64.toUInt64 &&& Int64.toUInt64 63)).toInt64 = 0
    · have q := (sr_63 x).mp z
      exact ⟨1, fun post H => br_t rfl (br_f (by decide) (br_f (by decide) (br_t (by decide) (br_t z H)))), fun post H => br_t rfl (br_f (by decide) (br_f (by decide) (br_f (by decide) (br_f (by decide) (br_t (by decide) (br_f q H))))))⟩
    · have q : x < 0 := Decidable.byContradiction fun q => z ((sr_63 x).mpr q)
      exact ⟨0, fun post H => br_t rfl (br_f (by decide) (br_f (by decide) (br_t (by decide) (br_f z H)))), fun post H => br_t rfl (br_f (by decide) (br_f (by decide) (br_f (by decide) (br_f (by decide) (br_t (by decide) (br_t q H))))))⟩
  · by_cases z : (x.toUInt64 >>> ((63 : Int32).toInt64.toUInt64 &&& Int64.toUInt64 63)).toInt64 = 0
    · have q := (sr_63 x).mp z
      exact ⟨1, fun post H => br_t rfl (br_f (by decide) (br_f (by decide) (br_f (by decide) (br_t (by decide) (br_t z H))))), fun post H => br_t rfl (br_f (by decide) (br_f (by decide) (br_f (by decide) (br_f (by decide) (br_f (by decide) (br_f (by decide) (br_t (by decide) (br_f q H))))))))⟩
    · have q : x < 0 := Decidable.byContradiction fun q => z ((sr_63 x).mpr q)
      exact ⟨0, fun post H => br_t rfl (br_f (by decide) (br_f (by decide) (br_f (by decide) (br_t (by decide) (br_f z H))))), fun post H => br_t rfl (br_f (by decide) (br_f (by decide) (br_f (by decide) (br_f (by decide) (br_f (by decide) (br_f (by decide) (br_t (by decide) (br_t q H))))))))⟩
  · by_cases z : (x.toUInt64 >>> ((32 : Int32).toInt64.toUInt64 &&& Int64.toUInt64 63)).toInt64 = 0
    · have q := (sr_32 x).mp z
      exact ⟨1, fun post H => br_f (by decide) (br_f (by decide) (br_t (by decide) (br_t z H))), fun post H => br_f (by decide) (br_f (by decide) (br_f (by decide) (br_f (by decide) (br_t (by decide) (br_f q.1 (br_f q.2 H))))))⟩
    · refine ⟨0, fun post H => br_f (by decide) (br_f (by decide) (br_t (by decide) (br_f z H))), fun post H => br_f (by decide) (br_f (by decide) (br_f (by decide) (br_f (by decide) (br_t (by decide) ?_))))⟩
      exact br_c (fun _ => H) fun q => br_c (fun _ => H) fun q2 => absurd ((sr_32 x).mpr ⟨q, q2⟩) z
  · exact ⟨1, fun post H => br_f (by decide) (br_f (by decide) (br_f (by decide) (br_f (by decide) (br_f (by decide) H)))), fun post H => br_f (by decide) (br_f (by decide) (br_f (by decide) (br_f (by decide) (br_f (by decide) (br_f (by decide) (br_t (by decide) H))))))⟩
  · exact ⟨1, fun post H => br_f (by decide) (br_f (by decide) (br_f (by decide) (br_f (by decide) (br_f (by decide) H)))), fun post H => br_f (by decide) (br_f (by decide) (br_t (by decide) H))⟩
theorem i_vc_fits {k : Nat} {u : SX} {v : SY} (I : i_Rel k u v) (hk : k + 3 ≤ 1536) (a0 : Int64) : wpX_fits (fun r => wpY_fits (fun r' => r' = r ∧ i_Rel (k + 3) u v) v a0) u a0 := by
  have I' : i_Rel (k + 3) u v := I
  obtain ⟨h, l, c, s, a, rfl, rfl, hh, hl, hs, hc⟩ := I
  obtain ⟨r, HX, HY⟩ := sr_fits (c := c) (s := s) (a := a) hh hl a0
  exact HX _ (HY _ ⟨rfl, I'⟩)
end
