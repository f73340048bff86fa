section
/-! ints that are small naturals: places, bits, narrowings (closed tables) -/
theorem sp_ix : ∀ k, k < 10 → ∀ a, a < 2 → ∀ e, e < 2 → (((nI (2 * k + e) >>> ((1 : Int32) &&& 31)) * 4) + (2 * nI a)) + (nI (2 * k + e) &&& 1) = nI (4 * k + (2 * a + e)) := by decide +kernel
theorem sp_bit0 : ∀ k, k < 10 → ∀ j, j < 10 → j ≠ k → ((((1 : Int32) <<< (nI k &&& 31)) >>> (nI j &&& 31)) &&& 1) = 0 := by decide +kernel
theorem sp_bit1 : ∀ k, k < 10 → ¬ ((((1 : Int32) <<< (nI k &&& 31)) >>> (nI k &&& 31)) &&& 1) = 0 := by decide +kernel
theorem sp_bitE : ∀ j, j < 10 → (((0 : Int32) >>> (nI j &&& 31)) &&& 1) = 0 := by decide +kernel
theorem sp_odd : ∀ k, k < 10 → ∀ e, e < 2 → nI (2 * k + e) &&& 1 = nI e := by decide +kernel
theorem sp_half : ∀ k, k < 10 → ∀ e, e < 2 → nI (2 * k + e) >>> ((1 : Int32) &&& 31) = nI k := by decide +kernel
theorem sp_by : ∀ n, n < 20 → (nI n).toInt8.toInt32 = nI n := by decide +kernel
theorem sp_sh : ∀ n, n < 1001 → (nI n).toInt16.toInt32 = nI n := by decide +kernel
theorem sp_bitZ : ∀ j, j < 10 → (0 : Int32) + (((0 : Int32) >>> (nI j &&& 31)) &&& 1) = 0 := by decide +kernel
theorem sp_z0 : (0 : Int32) &&& 0 = 0 := by decide
theorem sp_or0 (x : Int32) : (0 : Int32) ||| x = x := Int32.zero_or
theorem sp_in {n : Nat} (h : n < 40) : vp_in (nI n) 40 := vp_in_nI h (by decide)
theorem sp_upE {f : Nat → Int32} {i x x' : Int32} {n : Nat} (h : i = nI n) (hn : n < 2 ^ 31) (hx : x = x') : upd f i.toNatClampNeg x = upd f n x' := by
  rw [h, nI_clamp hn, hx]
theorem sp_2k (k : Nat) : (2 : Int32) * nI k = nI (2 * k) := pk_mul 2 k
theorem sp_ox (a i : Nat) : nI a * 20 + nI i = nI (20 * a + i) := by
  rw [show nI a * 20 = nI (a * 20) from pk_mul a 20, nI_add, Nat.mul_comm]
theorem sp_q0 (k : Nat) : nI k * 4 = nI (4 * k) := by
  rw [show nI k * 4 = nI (k * 4) from pk_mul k 4, Nat.mul_comm]
theorem sp_qx (k w : Nat) : nI k * 4 + nI w = nI (4 * k + w) := by
  rw [sp_q0, nI_add]
theorem sp_div {X : Nat} (h : X ≤ 9999) : nI X / 100 = nI (X / 100) := pk_div (d := 100) (by omega) (by omega) (by omega)
theorem sp_rem {X : Nat} (h : X ≤ 9999) : nI X - nI X / 100 * 100 = nI (X % 100) := pk_rem (d := 100) (by omega) (by omega) (by omega)
/-! the picture: one box k, its four edges v 0 .. v 3 -/
def sp_up (v : Nat → Nat) (i x : Nat) : Nat → Nat := fun w => if w = i then x else v w
theorem sp_us {v : Nat → Nat} {i x : Nat} : sp_up v i x i = x := if_pos rfl
theorem sp_un {v : Nat → Nat} {i x w : Nat} (h : w ≠ i) : sp_up v i x w = v w := if_neg h
def sp_4 (x0 x1 y0 y1 : Nat) : Nat → Nat := fun w => if w = 0 then x0 else if w = 1 then x1 else if w = 2 then y0 else y1
def sp_K (k : Nat) (v : Nat → Nat) (t c : Int32) (a1 a2 a3 : Nat → Int32) : Prop :=
  k < 10 ∧ (∀ w, w < 4 → v w ≤ 1000) ∧ t = (1 : Int32) <<< (nI k &&& 31) ∧ c = nI 2 ∧ (∀ w, w < 4 → a1 (4 * k + w) = nI (v w)) ∧ (∀ a, a < 2 → a2 (20 * a) = nI (2 * k) ∧ a2 (20 * a + 1) = nI (2 * k + 1)) ∧ (∀ j, a3 j = 0)
theorem sp_Kc {k : Nat} {v v' : Nat → Nat} {t c : Int32} {a1 a2 a3 : Nat → Int32} (h : sp_K k v t c a1 a2 a3) (e : ∀ w, w < 4 → v' w = v w) : sp_K k v' t c a1 a2 a3 := by
  obtain ⟨hk, hv, ht, hc, h1, h2, h3⟩ := h
  exact ⟨hk, fun w hw => by rw [e w hw]; exact hv w hw, ht, hc, fun w hw => by rw [e w hw]; exact h1 w hw, h2, h3⟩
theorem sp_Ku {k i x : Nat} {v : Nat → Nat} {t c : Int32} {a1 a2 a3 : Nat → Int32} (h : sp_K k v t c a1 a2 a3) (hx : x ≤ 1000) : sp_K k (sp_up v i x) t c (upd a1 (4 * k + i) (nI x)) a2 a3 := by
  obtain ⟨hk, hv, ht, hc, h1, h2, h3⟩ := h
  refine ⟨hk, fun w hw => ?_, ht, hc, fun w hw => ?_, h2, h3⟩
  · by_cases e : w = i
    · rw [e, sp_us]; exact hx
    · rw [sp_un e]; exact hv w hw
  · by_cases e : w = i
    · rw [e, sp_us, pk_us]
    · rw [sp_un e, pk_un (by omega)]; exact h1 w hw
/-! signed bounds -/
theorem sp_neg {x : Nat} (h : x ≤ 99) : (-nI x).toInt = -(x : Int) := sb_negT (by omega)
theorem sp_0s (x : Int32) : 0 - x = -x := Int32.zero_sub x
theorem sp_99 {x : Nat} (h : x ≤ 99) : ((99 : Int32) - nI x).toInt = 99 - (x : Int) := pk_sub_toInt (a := 99) (by omega) (by omega)
theorem sp_100 {x : Nat} (h : x ≤ 99) : ((100 : Int32) - nI x).toInt = 100 - (x : Int) := pk_sub_toInt (a := 100) (by omega) (by omega)
/-- the law's bound and the class's one -/
theorem sp_hi {x : Nat} (h : x ≤ 99) (d : Int32) : (99 - nI x < d) ↔ (100 - nI x ≤ d) := by
  rw [Int32.lt_iff_toInt_lt, Int32.le_iff_toInt_le, sp_99 h, sp_100 h]
  omega
/-- a moved edge is a small natural again -/
theorem sp_mv {x y : Nat} {d : Int32} (hxy : x ≤ y) (hy : y ≤ 99) (h1 : ¬ d < -nI x) (h2 : ¬ 100 - nI y ≤ d) : ∃ x' y' : Nat, x' ≤ y' ∧ y' ≤ 99 ∧ nI x + d = nI x' ∧ nI y + d = nI y' := by
  rw [Int32.lt_iff_toInt_lt, sp_neg (by omega)] at h1
  rw [Int32.le_iff_toInt_le, sp_100 hy] at h2
  have key : ∀ z : Nat, x ≤ z → z ≤ y → nI z + d = nI (z + d.toInt).toNat := by
    intro z hz1 hz2
    apply Int32.toInt_inj.mp
    rw [Int32.toInt_add, nI_toInt (by omega), nI_toInt (by omega), Int.toNat_of_nonneg (by omega)]
    exact Int.bmod_eq_of_le (by omega) (by omega)
  exact ⟨(x + d.toInt).toNat, (y + d.toInt).toNat, by omega, by omega, key x (by omega) hxy, key y hxy (by omega)⟩
theorem sp_9 {x : Int32} : (9 < x) ↔ (10 ≤ x) := by
  rw [Int32.lt_iff_toInt_lt, Int32.le_iff_toInt_le, show (9 : Int32).toInt = 9 by decide, show (10 : Int32).toInt = 10 by decide]
  omega
theorem sp_9999 {x : Int32} : (9999 < x) ↔ (10000 ≤ x) := by
  rw [Int32.lt_iff_toInt_lt, Int32.le_iff_toInt_le, show (9999 : Int32).toInt = 9999 by decide, show (10000 : Int32).toInt = 10000 by decide]
  omega
theorem sp_lt_le {x y : Int32} : ¬ x < y ↔ y ≤ x := by
  rw [Int32.lt_iff_toInt_lt, Int32.le_iff_toInt_le]
  omega
end
section
/-! the class's methods, over any state that matches the picture -/
theorem sp_isT1 {post : Int32 → Prop} {k : Nat} {v : Nat → Nat} {t c : Int32} {a1 a2 a3 : Nat → Int32} (h : sp_K k v t c a1 a2 a3) (H : post 1) : wpX_isThere post (t, c, a1, a2, a3) (nI k) := by
  obtain ⟨hk, hv, rfl, rfl, h1, h2, h3⟩ := h
  exact br_f (nI_pos (by omega)) (br_f (nI_ge (b := 10) hk (by decide)) (br_f (sp_bit1 k hk) H))
theorem sp_isT0 {post : Int32 → Prop} {k j : Nat} {v : Nat → Nat} {t c : Int32} {a1 a2 a3 : Nat → Int32} (h : sp_K k v t c a1 a2 a3) (hj : j < 10) (hn : j ≠ k) (H : post 0) : wpX_isThere post (t, c, a1, a2, a3) (nI j) := by
  obtain ⟨hk, hv, rfl, rfl, h1, h2, h3⟩ := h
  exact br_f (nI_pos (by omega)) (br_f (nI_ge (b := 10) hj (by decide)) (br_t (sp_bit0 k hk j hj hn) H))
theorem sp_isE {post : Int32 → Prop} {c : Int32} {a1 a2 a3 : Nat → Int32} (p : Int32) (H : post 0) : wpX_isThere post (0, c, a1, a2, a3) p := by
  refine br_c (fun _ => H) (fun n1 => br_c (fun _ => H) (fun n2 => br_t ?_ H))
  rcases pk_ix p (n := 10) (by decide) with h | h | ⟨j, hj, rfl⟩
  · exact absurd h n1
  · exact absurd h n2
  · exact sp_bitE j hj
theorem sp_ovl {post : Int32 → Prop} {k : Nat} {v : Nat → Nat} {t c : Int32} {a1 a2 a3 : Nat → Int32} (h : sp_K k v t c a1 a2 a3) (H : post 0) : wpX_overlapping post (t, c, a1, a2, a3) (nI k) := by
  obtain ⟨hk, hv, rfl, rfl, h1, h2, h3⟩ := h
  refine ⟨pk_in k 20 (by omega), pk_in (10 + k) 20 (by omega) (nI_add 10 k), ?_⟩
  rw [h3, h3, sp_z0]
  exact H
theorem sp_val {post : Int32 → Prop} {k a e : Nat} {v : Nat → Nat} {t c : Int32} {a1 a2 a3 : Nat → Int32} (h : sp_K k v t c a1 a2 a3) (ha : a < 2) (he : e < 2) (H : post (nI (v (2 * a + e)))) : wpX_valueOf post (t, c, a1, a2, a3) (nI a) (nI (2 * k + e)) := by
  obtain ⟨hk, hv, rfl, rfl, h1, h2, h3⟩ := h
  unfold wpX_valueOf
  dsimp only
  rw [sp_ix k hk a ha e he, nI_clamp (show 4 * k + (2 * a + e) < 2 ^ 31 by omega), h1 (2 * a + e) (by omega)]
  exact ⟨sp_in (by omega), H⟩
theorem sp_mp {post : Int32 → Prop} {k a : Nat} {v : Nat → Nat} {t c : Int32} {a1 a2 a3 : Nat → Int32} (h : sp_K k v t c a1 a2 a3) (ha : a < 2) (ho : v (2 * a) ≤ v (2 * a + 1)) (H : post 0) : wpX_mustPass post (t, c, a1, a2, a3) (nI a) (nI (2 * k + 1)) (nI (2 * k)) := by
  have hk := h.1
  have hb := h.2.1 (2 * a + 1) (by omega)
  unfold wpX_mustPass
  dsimp only
  refine sp_val (e := 1) h ha (by omega) ?_
  refine sp_val (e := 0) h ha (by omega) ?_
  refine br_f (nI_nlt ho (by omega)) (br_c (fun _ => br_t ?_ H) (fun _ => H))
  have e0 : nI (2 * k) &&& 1 = nI 0 := sp_odd k hk 0 (by omega)
  have e1 : nI (2 * k + 1) &&& 1 = nI 1 := sp_odd k hk 1 (by omega)
  rw [e0, e1]
  decide
theorem sp_find {post : Int32 → Prop} {k a e : Nat} {v : Nat → Nat} {t c : Int32} {a1 a2 a3 : Nat → Int32} (h : sp_K k v t c a1 a2 a3) (ha : a < 2) (he : e < 2) (H : post (nI e)) : wpX_find post (t, c, a1, a2, a3) (nI a) (nI (2 * k + e)) := by
  obtain ⟨hk, hv, rfl, rfl, h1, h2, h3⟩ := h
  have i0 : nI a * 20 + 0 = nI (20 * a) := sp_ox a 0
  have i1 : nI a * 20 + nI 1 = nI (20 * a + 1) := sp_ox a 1
  have c0 : (nI a * 20 + 0).toNatClampNeg = 20 * a := by rw [i0, nI_clamp (by omega)]
  have c1 : (nI a * 20 + nI 1).toNatClampNeg = 20 * a + 1 := by rw [i1, nI_clamp (by omega)]
  have he' : e = 0 ∨ e = 1 := by omega
  rcases he' with rfl | rfl
  · refine ⟨1, br_f (nI_ge (a := 0) (b := 19) (by decide) (by decide)) ⟨pk_in (20 * a) 40 (by omega) i0, br_t ?_ H⟩⟩
    rw [c0]
    exact (h2 a ha).1
  · refine ⟨2, br_f (nI_ge (a := 0) (b := 19) (by decide) (by decide)) ⟨pk_in (20 * a) 40 (by omega) i0, br_f ?_ (nm_r (e' := nI 1) (by decide) (br_f (nI_ge (a := 1) (b := 19) (by decide) (by decide)) ⟨pk_in (20 * a + 1) 40 (by omega) i1, br_t ?_ H⟩))⟩⟩
    · rw [c0, (h2 a ha).1, nI_eq (by omega) (by omega)]
      omega
    · rw [c1]
      exact (h2 a ha).2
theorem sp_mvE {post : St2 → Prop} {k a e x : Nat} {v : Nat → Nat} {t c : Int32} {a1 a2 a3 : Nat → Int32} (h : sp_K k v t c a1 a2 a3) (ha : a < 2) (he : e < 2) (hx : x ≤ 1000) (ho : sp_up v (2 * a + e) x (2 * a) ≤ sp_up v (2 * a + e) x (2 * a + 1))
    (H : ∀ b, sp_K k (sp_up v (2 * a + e) x) t c b a2 a3 → post (t, c, b, a2, a3)) : wpX_moveEdge post (t, c, a1, a2, a3) (nI a) (nI (2 * k + e)) (nI x) := by
  obtain ⟨hk, _, _, rfl, _, h2, _⟩ := id h
  unfold wpX_moveEdge
  dsimp only
  rw [sp_ix k hk a ha e he, nI_clamp (show 4 * k + (2 * a + e) < 2 ^ 31 by omega), sp_sh x (by omega)]
  refine ⟨sp_in (by omega), nm_e ?_⟩
  have h' := sp_Ku (i := 2 * a + e) h hx
  have hb := H _ h'
  refine sp_find h' ha he ?_
  have he' : e = 0 ∨ e = 1 := by omega
  rcases he' with rfl | rfl
  · have i1 : nI a * 20 + nI 0 + 1 = nI (20 * a + 1) := by rw [sp_ox, nI_1]
    have c1 : (nI a * 20 + nI 0 + 1).toNatClampNeg = 20 * a + 1 := by rw [i1, nI_clamp (by omega)]
    refine ⟨1, br_t (by decide) ⟨1, br_f (by decide) ⟨pk_in (20 * a + 1) 40 (by omega) i1, ?_⟩⟩⟩
    rw [c1, (h2 a ha).2]
    exact sp_mp h' ha ho (br_t rfl hb)
  · have i0 : nI a * 20 + nI 1 - 1 = nI (20 * a) := by rw [sp_ox, nI_pred]
    have c0 : (nI a * 20 + nI 1 - 1).toNatClampNeg = 20 * a := by rw [i0, nI_clamp (by omega)]
    refine ⟨1, br_f (by decide) ⟨pk_in (20 * a) 40 (by omega) i0, ?_⟩⟩
    rw [c0, (h2 a ha).1]
    exact sp_mp h' ha ho (br_t rfl ⟨1, br_t (by decide) hb⟩)
theorem sp_mvS {post : St2 → Prop} {k a lo hi : Nat} {v : Nat → Nat} {t c : Int32} {a1 a2 a3 : Nat → Int32} (h : sp_K k v t c a1 a2 a3) (ha : a < 2) (hl : lo ≤ hi) (hh : hi ≤ 1000) (ho : v (2 * a) ≤ v (2 * a + 1))
    (H : ∀ b, sp_K k (sp_up (sp_up v (2 * a) lo) (2 * a + 1) hi) t c b a2 a3 → post (t, c, b, a2, a3)) : wpX_moveSpan post (t, c, a1, a2, a3) (nI a) (nI k) (nI lo) (nI hi) := by
  obtain ⟨hk, hv, _, _, h1, _, _⟩ := id h
  have hb := hv (2 * a) (by omega)
  unfold wpX_moveSpan
  dsimp only
  have i0 : nI k * 4 + 2 * nI a = nI (4 * k + 2 * a) := by rw [sp_2k, sp_qx]
  rw [i0, nI_clamp (show 4 * k + 2 * a < 2 ^ 31 by omega), h1 (2 * a) (by omega), sp_2k, nI_1]
  refine ⟨sp_in (by omega), pk_le (v (2 * a)) lo (fun z => ?_) (fun z => ?_)⟩
  · refine sp_mvE (e := 1) h ha (by omega) hh (by rw [sp_us, sp_un (by omega)]; omega) (fun b hb' => ?_)
    refine sp_mvE (e := 0) hb' ha (by omega) (by omega) (show sp_up (sp_up v (2 * a + 1) hi) (2 * a) lo (2 * a) ≤ sp_up (sp_up v (2 * a + 1) hi) (2 * a) lo (2 * a + 1) by rw [sp_us, sp_un (by omega), sp_us]; exact hl) (fun b2 hb2 => ?_)
    refine H b2 (sp_Kc hb2 (fun w hw => ?_))
    by_cases w1 : w = 2 * a + 1
    · rw [w1, sp_us, sp_un (by omega), sp_us]
    · rw [sp_un w1]
      by_cases w0 : w = 2 * a
      · rw [w0, sp_us]
        exact sp_us.symm
      · rw [sp_un w0, sp_un (show w ≠ 2 * a + 0 from w0), sp_un w1]
  · refine sp_mvE (e := 0) h ha (by omega) (by omega) (show sp_up v (2 * a) lo (2 * a) ≤ sp_up v (2 * a) lo (2 * a + 1) by rw [sp_us, sp_un (by omega)]; omega) (fun b hb' => ?_)
    exact sp_mvE (e := 1) hb' ha (by omega) hh (show sp_up (sp_up v (2 * a) lo) (2 * a + 1) hi (2 * a) ≤ sp_up (sp_up v (2 * a) lo) (2 * a + 1) hi (2 * a + 1) by rw [sp_us, sp_un (by omega), sp_us]; exact hl) (fun b2 hb2 => H b2 hb2)
theorem sp_ones {post : Int32 → Prop} {u : St0} {x : Int32} (hx : x = 0) (H : post 0) : wpX_ones post u x := by
  subst hx
  exact pk_loop (σ := Unit) (fun n i _ => wX_ones_4 post 0 n 0 (nI i)) (fun _ _ => True) 10 0 () (by omega) trivial
    (fun n _ _ => pk_le 10 10 (fun _ => H) (fun z => absurd z (by omega)))
    (fun n i _ hi _ hw => pk_le 10 i (fun z => absurd z (by omega)) (fun _ => nm_r (sp_bitZ i hi) (nm_r (nI_1 i) (hw () trivial))))
theorem sp_enter {post : St2 → Prop} {k : Nat} (hk : k < 10) (H : ∀ t c a1 a2 a3, sp_K k (fun _ => 1000) t c a1 a2 a3 → post (t, c, a1, a2, a3)) : wpX_enter post (0, 0, (fun _ => 0), (fun _ => 0), (fun _ => 0)) (nI k) := by
  refine nm_r (sp_or0 _) ?_
  refine pk_loop (σ := (Nat → Int32) × (Nat → Int32)) (fun n i s => wX_enter_14 post (nI k) ((1 : Int32) <<< (nI k &&& 31)) 0 n (nI i) s.1 s.2 (fun _ => 0)) (fun i s => ∀ a, a < i → s.1 (4 * k + 2 * a) = nI 1000 ∧ s.1 (4 * k + 2 * a + 1) = nI 1000 ∧ s.2 (20 * a) = nI (2 * k) ∧ s.2 (20 * a + 1) = nI (2 * k + 1)) 2 0 ((fun _ => 0), (fun _ => 0)) (by omega) (fun a h => absurd h (by omega)) ?_ ?_
  · intro n s h
    refine pk_le 2 2 (fun _ => nm_r (e' := nI 2) (by decide) (H _ _ _ _ _ ?_)) (fun z => absurd z (by omega))
    refine ⟨hk, fun _ _ => Nat.le_refl _, rfl, rfl, fun w hw => ?_, fun a ha => (h a ha).2.2, fun _ => rfl⟩
    have hw' : w = 0 ∨ w = 1 ∨ w = 2 ∨ w = 3 := by omega
    rcases hw' with rfl | rfl | rfl | rfl
    · exact (h 0 (by omega)).1
    · exact (h 0 (by omega)).2.1
    · exact (h 1 (by omega)).1
    · exact (h 1 (by omega)).2.1
  · intro n i s hi h hw
    have i0 : nI k * 4 + 2 * nI i = nI (4 * k + 2 * i) := by rw [sp_2k, sp_qx]
    have i1 : nI k * 4 + 2 * nI i + 1 = nI (4 * k + 2 * i + 1) := by rw [i0, nI_1]
    have j0 : nI i * 20 + 0 = nI (20 * i) := sp_ox i 0
    have j1 : nI i * 20 + 0 + 1 = nI (20 * i + 1) := by rw [j0, nI_1]
    have b0 : ((2 : Int32) * nI k).toInt8.toInt32 = nI (2 * k) := by rw [sp_2k, sp_by _ (by omega)]
    have b1 : ((2 : Int32) * nI k + 1).toInt8.toInt32 = nI (2 * k + 1) := by rw [sp_2k, nI_1, sp_by _ (by omega)]
    refine pk_le 2 i (fun z => absurd z (by omega)) (fun _ => ⟨pk_in _ 40 (by omega) i0, nm_r (e' := upd s.1 (4 * k + 2 * i) (nI 1000)) (sp_upE i0 (by omega) rfl) ⟨pk_in _ 40 (by omega) i1, nm_r (e' := upd (upd s.1 (4 * k + 2 * i) (nI 1000)) (4 * k + 2 * i + 1) (nI 1000)) (sp_upE i1 (by omega) rfl) ⟨pk_in _ 40 (by omega) j0, nm_r (e' := upd s.2 (20 * i) (nI (2 * k))) (sp_upE j0 (by omega) b0) ⟨pk_in _ 40 (by omega) j1, nm_r (e' := upd (upd s.2 (20 * i) (nI (2 * k))) (20 * i + 1) (nI (2 * k + 1))) (sp_upE j1 (by omega) b1) (nm_r (nI_1 i) (hw (upd (upd s.1 (4 * k + 2 * i) (nI 1000)) (4 * k + 2 * i + 1) (nI 1000), upd (upd s.2 (20 * i) (nI (2 * k))) (20 * i + 1) (nI (2 * k + 1))) ?_))⟩⟩⟩⟩)
    intro a ha
    dsimp only
    by_cases e : a = i
    · subst e
      refine ⟨?_, pk_us, ?_, pk_us⟩
      · rw [pk_un (by omega), pk_us]
      · rw [pk_un (by omega), pk_us]
    · obtain ⟨g1, g2, g3, g4⟩ := h a (by omega)
      rw [pk_un (by omega), pk_un (by omega), pk_un (by omega), pk_un (by omega), pk_un (by omega), pk_un (by omega), pk_un (by omega), pk_un (by omega)]
      exact ⟨g1, g2, g3, g4⟩
end
section
/-! what the law calls -/
/-- the law's and the class's common condition on put's arguments -/
def sp_good (p0 p1 p2 : Int32) : Prop := ¬ p0 < 0 ∧ ¬ 10 ≤ p0 ∧ ¬ p1 < 0 ∧ ¬ 10000 ≤ p1 ∧ ¬ p2 < 0 ∧ ¬ 10000 ≤ p2 ∧ ¬ p1 / 100 < p1 - p1 / 100 * 100 ∧ ¬ p2 / 100 < p2 - p2 / 100 * 100
theorem sp_p26 {post : Int32 → St2 → Prop} {p0 p1 p2 t c : Int32} {a1 a2 a3 : Nat → Int32} (H : post (-1) (t, c, a1, a2, a3)) : wX_put_26 post p0 p1 p2 t c a1 a2 a3 :=
  br_c (fun _ => H) (fun _ => br_c (fun _ => H) (fun _ => br_t rfl H))
theorem sp_putB {post : Int32 → St2 → Prop} {p0 p1 p2 t c : Int32} {a1 a2 a3 : Nat → Int32} (hb : ¬ sp_good p0 p1 p2) (H : post (-1) (t, c, a1, a2, a3)) : wpX_put post (t, c, a1, a2, a3) p0 p1 p2 :=
  br_c (fun _ => sp_p26 H) (fun n1 => br_c (fun _ => sp_p26 H) (fun n2 => br_c (fun _ => sp_p26 H) (fun n3 => br_c (fun _ => sp_p26 H) (fun n4 =>
    br_c (fun _ => H) (fun n5 => br_c (fun _ => H) (fun n6 => br_f (by decide) ⟨by decide, by decide, br_c (fun _ => H) (fun n7 => ⟨by decide, by decide, br_c (fun n8 => absurd ⟨n5, n6, n1, n2, n3, n4, n7, sp_lt_le.mpr n8⟩ hb) (fun _ => H)⟩)⟩))))))
theorem sp_p81 {post : Int32 → St2 → Prop} {k X Y : Nat} {v : Nat → Nat} {t c : Int32} {a1 a2 a3 : Nat → Int32} (h : sp_K k v t c a1 a2 a3) (ho : ∀ a, a < 2 → v (2 * a) ≤ v (2 * a + 1)) (hX : X ≤ 9999) (hY : Y ≤ 9999) (hx : X % 100 ≤ X / 100) (hy : Y % 100 ≤ Y / 100)
    (H : ∀ r t c a1 a2 a3, sp_K k (sp_4 (X % 100) (X / 100) (Y % 100) (Y / 100)) t c a1 a2 a3 → post r (t, c, a1, a2, a3)) : wX_put_81 post (nI k) (nI X) (nI Y) t c a1 a2 a3 := by
  unfold wX_put_81
  rw [sp_rem hX, sp_div hX, sp_rem hY, sp_div hY]
  refine sp_ovl h ⟨by decide, by decide, ?_⟩
  refine sp_mvS (a := 0) h (by omega) hx (by omega) (ho 0 (by omega)) (fun b hb => ⟨by decide, by decide, ?_⟩)
  refine sp_mvS (a := 1) hb (by omega) hy (by omega) ?_ (fun b2 hb2 => ?_)
  · rw [sp_un (by omega), sp_un (by omega), sp_un (by omega), sp_un (by omega)]
    exact ho 1 (by omega)
  · refine sp_ovl hb2 (sp_ones (by decide) (H _ _ _ _ _ _ (sp_Kc hb2 (fun w hw => ?_))))
    have hw' : w = 0 ∨ w = 1 ∨ w = 2 ∨ w = 3 := by omega
    rcases hw' with rfl | rfl | rfl | rfl <;> rfl
theorem sp_put {post : Int32 → St2 → Prop} {k X Y : Nat} (hk : k < 10) (hX : X ≤ 9999) (hY : Y ≤ 9999) (hx : X % 100 ≤ X / 100) (hy : Y % 100 ≤ Y / 100)
    (H : ∀ r t c a1 a2 a3, sp_K k (sp_4 (X % 100) (X / 100) (Y % 100) (Y / 100)) t c a1 a2 a3 → post r (t, c, a1, a2, a3)) : wpX_put post (0, 0, (fun _ => 0), (fun _ => 0), (fun _ => 0)) (nI k) (nI X) (nI Y) := by
  refine br_f (nI_pos (by omega)) (br_f (nI_ge (b := 10000) (by omega) (by decide)) (br_f (nI_pos (by omega)) (br_f (nI_ge (b := 10000) (by omega) (by decide)) (br_f (nI_pos (by omega)) (br_f (nI_ge (b := 10) (by omega) (by decide)) (br_f (by decide) ⟨by decide, by decide, br_f ?_ ⟨by decide, by decide, br_t ?_ (sp_isE _ (br_t rfl (sp_enter hk (fun t c a1 a2 a3 h => ?_))))⟩⟩))))))
  · rw [sp_rem hX, sp_div hX]
    exact nI_nlt hx (by omega)
  · rw [sp_rem hY, sp_div hY]
    exact nI_le hy (by omega)
  · exact sp_p81 h (fun _ _ => Nat.le_refl _) hX hY hx hy H
theorem sp_moveB {post : Int32 → St2 → Prop} {k x0 x1 y0 y1 : Nat} {t c dx dy : Int32} {a1 a2 a3 : Nat → Int32} (h : sp_K k (sp_4 x0 x1 y0 y1) t c a1 a2 a3) (hb : ¬ (¬ dx < -nI x0 ∧ ¬ 100 - nI x1 ≤ dx ∧ ¬ dy < -nI y0 ∧ ¬ 100 - nI y1 ≤ dy)) (H : post (-1) (t, c, a1, a2, a3)) : wpX_move post (t, c, a1, a2, a3) (nI k) dx dy := by
  obtain ⟨hk, hv, _, _, h1, _, _⟩ := id h
  unfold wpX_move
  dsimp only
  have i0 : nI k * 4 = nI (4 * k) := sp_q0 k
  have i1 : nI k * 4 + 1 = nI (4 * k + 1) := sp_qx k 1
  have i2 : nI k * 4 + 2 = nI (4 * k + 2) := sp_qx k 2
  have i3 : nI k * 4 + 3 = nI (4 * k + 3) := sp_qx k 3
  have g0 : a1 (4 * k) = nI x0 := h1 0 (by omega)
  have g1 : a1 (4 * k + 1) = nI x1 := h1 1 (by omega)
  have g2 : a1 (4 * k + 2) = nI y0 := h1 2 (by omega)
  have g3 : a1 (4 * k + 3) = nI y1 := h1 3 (by omega)
  rw [i1, i2, i3, i0, nI_clamp (show 4 * k < 2 ^ 31 by omega), nI_clamp (show 4 * k + 1 < 2 ^ 31 by omega), nI_clamp (show 4 * k + 2 < 2 ^ 31 by omega), nI_clamp (show 4 * k + 3 < 2 ^ 31 by omega), g0, g1, g2, g3]
  refine sp_isT1 h (br_f (by decide) ⟨sp_in (by omega), sp_in (by omega), ?_⟩)
  exact br_c (fun _ => br_t rfl H) (fun n1 => br_c (fun _ => br_t rfl H) (fun n2 => br_f (by decide) ⟨sp_in (by omega), sp_in (by omega), br_c (fun _ => br_t rfl H) (fun n3 => br_c (fun _ => br_t rfl H) (fun n4 => absurd ⟨n1, n2, n3, n4⟩ hb))⟩))
theorem sp_move {post : Int32 → St2 → Prop} {k x0 x1 y0 y1 u0 u1 w0 w1 : Nat} {t c dx dy : Int32} {a1 a2 a3 : Nat → Int32} (h : sp_K k (sp_4 x0 x1 y0 y1) t c a1 a2 a3) (hx : x0 ≤ x1) (hy : y0 ≤ y1) (n1 : ¬ dx < -nI x0) (n2 : ¬ 100 - nI x1 ≤ dx) (n3 : ¬ dy < -nI y0) (n4 : ¬ 100 - nI y1 ≤ dy)
    (e0 : nI x0 + dx = nI u0) (e1 : nI x1 + dx = nI u1) (e2 : nI y0 + dy = nI w0) (e3 : nI y1 + dy = nI w1) (hu : u0 ≤ u1) (hu1 : u1 ≤ 99) (hw : w0 ≤ w1) (hw1 : w1 ≤ 99)
    (H : ∀ b, sp_K k (sp_4 u0 u1 w0 w1) t c b a2 a3 → post 0 (t, c, b, a2, a3)) : wpX_move post (t, c, a1, a2, a3) (nI k) dx dy := by
  obtain ⟨hk, hv, _, _, h1, _, _⟩ := id h
  unfold wpX_move
  dsimp only
  have i0 : nI k * 4 = nI (4 * k) := sp_q0 k
  have i1 : nI k * 4 + 1 = nI (4 * k + 1) := sp_qx k 1
  have i2 : nI k * 4 + 2 = nI (4 * k + 2) := sp_qx k 2
  have i3 : nI k * 4 + 3 = nI (4 * k + 3) := sp_qx k 3
  have g0 : a1 (4 * k) = nI x0 := h1 0 (by omega)
  have g1 : a1 (4 * k + 1) = nI x1 := h1 1 (by omega)
  have g2 : a1 (4 * k + 2) = nI y0 := h1 2 (by omega)
  have g3 : a1 (4 * k + 3) = nI y1 := h1 3 (by omega)
  rw [i1, i2, i3, i0, nI_clamp (show 4 * k < 2 ^ 31 by omega), nI_clamp (show 4 * k + 1 < 2 ^ 31 by omega), nI_clamp (show 4 * k + 2 < 2 ^ 31 by omega), nI_clamp (show 4 * k + 3 < 2 ^ 31 by omega), g0, g1, g2, g3, e0, e1]
  refine sp_isT1 h (br_f (by decide) ⟨sp_in (by omega), sp_in (by omega), ?_⟩)
  refine br_f n1 (br_f n2 (br_f (by decide) ⟨sp_in (by omega), sp_in (by omega), br_f n3 (br_f n4 (br_f (by decide) ?_))⟩))
  refine sp_ovl h ⟨sp_in (by omega), sp_in (by omega), ?_⟩
  refine sp_mvS (a := 0) h (by omega) hu (by omega) hx (fun b hb => ⟨sp_in (by omega), sp_in (by omega), ?_⟩)
  have b2 : b (4 * k + 2) = nI y0 := hb.2.2.2.2.1 2 (by omega)
  have b3 : b (4 * k + 3) = nI y1 := hb.2.2.2.2.1 3 (by omega)
  try dsimp only
  rw [b2, b3, e2, e3]
  refine sp_mvS (a := 1) hb (by omega) hw (by omega) hy (fun b2 hb2 => ?_)
  refine sp_ovl hb2 (sp_ones (by decide) (H _ (sp_Kc hb2 (fun w hw => ?_))))
  have hw' : w = 0 ∨ w = 1 ∨ w = 2 ∨ w = 3 := by omega
  rcases hw' with rfl | rfl | rfl | rfl <;> rfl
theorem sp_edge {post : Int32 → Prop} {k w : Nat} {v : Nat → Nat} {t c : Int32} {a1 a2 a3 : Nat → Int32} (h : sp_K k v t c a1 a2 a3) (hw : w < 4) (H : post (nI (v w))) : wpX_edge post (t, c, a1, a2, a3) (nI k) (nI w) := by
  obtain ⟨hk, hv, _, _, h1, _, _⟩ := id h
  unfold wpX_edge
  dsimp only
  rw [sp_qx, nI_clamp (show 4 * k + w < 2 ^ 31 by omega), h1 w hw]
  exact sp_isT1 h (br_f (by decide) (br_f (nI_pos (by omega)) (br_f (nI_nlt (a := 3) (by omega) (by decide)) ⟨sp_in (by omega), H⟩)))
theorem sp_rank {post : Int32 → Prop} {k : Nat} {v : Nat → Nat} {t c : Int32} {a1 a2 a3 : Nat → Int32} (h : sp_K k v t c a1 a2 a3) (H : post 0) : wpX_rank post (t, c, a1, a2, a3) (nI k) 1 := by
  have hk := h.1
  have q : ∀ j, nI j * 4 + 2 * 1 = nI (4 * j + 2) := fun j => sp_qx j 2
  unfold wpX_rank
  dsimp only
  refine sp_isT1 h (br_f (by decide) (br_f (by decide) (br_t (by decide) ⟨pk_in _ 40 (by omega) (q k), nm_e ?_⟩)))
  refine pk_loop (σ := Unit) (fun n i _ => wX_rank_38 post (nI k) 1 (a1 (nI k * 4 + 2 * 1).toNatClampNeg) t c a1 a2 a3 n 0 (nI i)) (fun _ _ => True) 10 0 () (by omega) trivial
    (fun n _ _ => pk_le 10 10 (fun _ => H) (fun z => absurd z (by omega))) ?_
  intro n i _ hi _ hw
  have hw' := hw () trivial
  refine pk_le 10 i (fun z => absurd z (by omega)) (fun _ => ⟨pk_in _ 40 (by omega) (q i), nm_e ?_⟩)
  by_cases e : i = k
  · subst e
    exact sp_isT1 h (br_f (by decide) (br_f Int32.lt_irrefl (br_t rfl (br_t (Int32.le_refl _) (nm_r (e' := 0) (by decide) (nm_r (nI_1 _) hw'))))))
  · exact sp_isT0 h hi e (br_t rfl (nm_r (e' := 0) (by decide) (nm_r (nI_1 _) hw')))
theorem sp_span {post : Int32 → Prop} {k a : Nat} {v : Nat → Nat} {t c : Int32} {a1 a2 a3 : Nat → Int32} (h : sp_K k v t c a1 a2 a3) (ha : a < 2) (ho : v (2 * a) ≤ v (2 * a + 1)) (H : post ((1 : Int32) <<< (nI k &&& 31))) : wpX_spansAt post (t, c, a1, a2, a3) (nI a) (nI (v (2 * a + 1))) := by
  obtain ⟨hk, hv, _, rfl, h1, h2, _⟩ := id h
  have hb := hv (2 * a + 1) (by omega)
  have i0 : nI a * 20 + 0 = nI (20 * a) := sp_ox a 0
  have i1 : nI a * 20 + nI 1 = nI (20 * a + 1) := sp_ox a 1
  have c0 : a2 (nI a * 20 + 0).toNatClampNeg = nI (2 * k) := by rw [i0, nI_clamp (by omega), (h2 a ha).1]
  have c1 : a2 (nI a * 20 + nI 1).toNatClampNeg = nI (2 * k + 1) := by rw [i1, nI_clamp (by omega), (h2 a ha).2]
  have o0 : nI (2 * k) &&& 1 = 0 := sp_odd k hk 0 (by omega)
  have o1 : nI (2 * k + 1) &&& 1 = 1 := sp_odd k hk 1 (by omega)
  have f0 : nI (2 * k) >>> ((1 : Int32) &&& 31) = nI k := sp_half k hk 0 (by omega)
  refine ⟨3, br_f (by decide) ⟨pk_in _ 40 (by omega) i0, nm_r c0 ?_⟩⟩
  refine sp_val (e := 0) h ha (by omega) (br_t o0 (br_f (nI_nlt ho (by omega)) (nm_r (e' := (1 : Int32) <<< (nI k &&& 31)) (by rw [f0, sp_or0]) (nm_r (e' := nI 1) (by decide) ?_))))
  refine br_f (by decide) ⟨pk_in _ 40 (by omega) i1, nm_r c1 ?_⟩
  refine sp_val (e := 1) h ha (by omega) (br_f (by rw [o1]; decide) (br_t o1 (br_t (Int32.le_refl _) (nm_r (e' := nI 2) (by decide) (br_t (by decide) H)))))
theorem sp_at {post : Int32 → Prop} {k : Nat} {v : Nat → Nat} {t c : Int32} {a1 a2 a3 : Nat → Int32} (h : sp_K k v t c a1 a2 a3) (hx : v 0 ≤ v 1) (hy : v 2 ≤ v 3) (H : post ((1 : Int32) <<< (nI k &&& 31))) : wpX_at post (t, c, a1, a2, a3) (nI (v 1)) (nI (v 3)) := by
  unfold wpX_at
  dsimp only
  refine sp_span (a := 0) h (by omega) hx ?_
  refine sp_span (a := 1) h (by omega) hy ?_
  rw [Int32.and_self]
  exact H
theorem sp_part {post : Int32 → Prop} {k : Nat} {v : Nat → Nat} {t c : Int32} {a1 a2 a3 : Nat → Int32} (h : sp_K k v t c a1 a2 a3) (H : post 0) : wpX_partners post (t, c, a1, a2, a3) (nI k) := by
  unfold wpX_partners
  dsimp only
  exact sp_isT1 h (br_f (by decide) (sp_ovl h H))
theorem sp_leave {post : St2 → Prop} {k : Nat} {v : Nat → Nat} {t c : Int32} {a1 a2 a3 : Nat → Int32} (h : sp_K k v t c a1 a2 a3) (ho : ∀ a, a < 2 → v (2 * a) ≤ v (2 * a + 1)) (H : ∀ t c a1 a2 a3, post (t, c, a1, a2, a3)) : wpX_leave post (t, c, a1, a2, a3) (nI k) := by
  refine ⟨3, br_f (by decide) ?_⟩
  refine sp_mvS (a := 0) (lo := 1000) (hi := 1000) h (by omega) (by omega) (by omega) (ho 0 (by omega)) (fun b hb => nm_r (e' := nI 1) (by decide) (br_f (by decide) ?_))
  refine sp_mvS (a := 1) (lo := 1000) (hi := 1000) hb (by omega) (by omega) (by omega) ?_ (fun b2 hb2 => nm_r (e' := nI 2) (by decide) (br_t (by decide) (nm_e (nm_e (H _ _ _ _ _)))))
  rw [sp_un (by omega), sp_un (by omega), sp_un (by omega), sp_un (by omega)]
  exact ho 1 (by omega)
theorem sp_remove {post : Int32 → St2 → Prop} {k : Nat} {v : Nat → Nat} {t c : Int32} {a1 a2 a3 : Nat → Int32} (h : sp_K k v t c a1 a2 a3) (ho : ∀ a, a < 2 → v (2 * a) ≤ v (2 * a + 1)) (H : ∀ t c a1 a2 a3, post 0 (t, c, a1, a2, a3)) : wpX_remove post (t, c, a1, a2, a3) (nI k) := by
  unfold wpX_remove
  dsimp only
  exact sp_isT1 h (br_f (by decide) (sp_ovl h (sp_leave h ho (fun _ _ _ _ _ => sp_ones rfl (H _ _ _ _ _)))))
/-! the object with no box -/
theorem sp_moveE {post : Int32 → St2 → Prop} {c : Int32} {a1 a2 a3 : Nat → Int32} (p0 p1 p2 : Int32) (H : post (-1) (0, c, a1, a2, a3)) : wpX_move post (0, c, a1, a2, a3) p0 p1 p2 := by
  unfold wpX_move
  dsimp only
  exact sp_isE _ (br_t rfl H)
theorem sp_edgeE {post : Int32 → Prop} {c : Int32} {a1 a2 a3 : Nat → Int32} (p0 p1 : Int32) (H : post (-1)) : wpX_edge post (0, c, a1, a2, a3) p0 p1 := by
  unfold wpX_edge
  dsimp only
  exact sp_isE _ (br_t rfl H)
theorem sp_rankE {post : Int32 → Prop} {c : Int32} {a1 a2 a3 : Nat → Int32} (p0 p1 : Int32) (H : post (-1)) : wpX_rank post (0, c, a1, a2, a3) p0 p1 := by
  unfold wpX_rank
  dsimp only
  exact sp_isE _ (br_t rfl H)
theorem sp_spanE {post : Int32 → Prop} {t : Int32} {a1 a2 a3 : Nat → Int32} (p0 p1 : Int32) (H : post 0) : wpX_spansAt post (t, 0, a1, a2, a3) p0 p1 :=
  ⟨1, br_t (by decide) H⟩
theorem sp_atE {post : Int32 → Prop} {t : Int32} {a1 a2 a3 : Nat → Int32} (p0 p1 : Int32) (H : post 0) : wpX_at post (t, 0, a1, a2, a3) p0 p1 := by
  unfold wpX_at
  dsimp only
  refine sp_spanE _ _ (sp_spanE _ _ ?_)
  rw [sp_z0]
  exact H
theorem sp_partE {post : Int32 → Prop} {c : Int32} {a1 a2 a3 : Nat → Int32} (p0 : Int32) (H : post 0) : wpX_partners post (0, c, a1, a2, a3) p0 := by
  unfold wpX_partners
  dsimp only
  exact sp_isE _ (br_t rfl H)
theorem sp_removeE {post : Int32 → St2 → Prop} {c : Int32} {a1 a2 a3 : Nat → Int32} (p0 : Int32) (H : post (-1) (0, c, a1, a2, a3)) : wpX_remove post (0, c, a1, a2, a3) p0 := by
  unfold wpX_remove
  dsimp only
  exact sp_isE _ (br_t rfl H)
end
section
/-! the law -/
theorem sp_307 {mc ms kc ks k x0 x1 y0 y1 : Nat} {t c : Int32} {a1 a2 a3 : Nat → Int32} (h : sp_K k (sp_4 x0 x1 y0 y1) t c a1 a2 a3) (hx : x0 ≤ x1) (hy : y0 ≤ y1) : wL_lawOf_307 (fun r _ => r = 1) mc ms (nI k) (nI x0) (nI x1) (nI y0) (nI y1) 0 ((1 : Int32) <<< (nI k &&& 31)) kc ks t c a1 a2 a3 := by
  unfold wL_lawOf_307
  refine sp_edge (w := 0) h (by omega) (br_t rfl ?_)
  refine sp_edge (w := 1) h (by omega) (br_t rfl ?_)
  refine sp_edge (w := 2) h (by omega) (br_t rfl ?_)
  refine sp_edge (w := 3) h (by omega) (br_t rfl ?_)
  refine sp_rank h (br_t rfl ?_)
  refine sp_at (v := sp_4 x0 x1 y0 y1) h hx hy (br_t rfl ?_)
  refine sp_part h (br_t rfl ?_)
  refine sp_remove h (fun a ha => ?_) (fun _ _ _ _ _ => br_t rfl rfl)
  have ha' : a = 0 ∨ a = 1 := by omega
  rcases ha' with rfl | rfl
  · exact hx
  · exact hy
theorem sp_307E {mc ms kc ks : Nat} {p0 : Int32} : wL_lawOf_307 (fun r _ => r = 1) mc ms p0 (-1) (-1) (-1) (-1) (-1) 0 kc ks 0 0 (fun _ => 0) (fun _ => 0) (fun _ => 0) := by
  unfold wL_lawOf_307
  refine sp_edgeE _ _ (br_t rfl ?_)
  refine sp_edgeE _ _ (br_t rfl ?_)
  refine sp_edgeE _ _ (br_t rfl ?_)
  refine sp_edgeE _ _ (br_t rfl ?_)
  refine sp_rankE _ _ (br_t rfl ?_)
  refine sp_atE _ _ (br_t rfl ?_)
  refine sp_partE _ (br_t rfl ?_)
  exact sp_removeE _ (br_t rfl rfl)
/-- nothing was put -/
theorem sp_79 {mc ms kc ks : Nat} {p0 p1 p2 p3 p4 : Int32} (hb : ¬ sp_good p0 p1 p2) : wL_lawOf_79 (fun r _ => r = 1) mc ms p0 p1 p2 p3 p4 0 0 0 0 kc ks 0 0 (fun _ => 0) (fun _ => 0) (fun _ => 0) := by
  unfold wL_lawOf_79 wL_lawOf_80
  refine sp_putB hb (br_t rfl (br_t rfl ?_))
  unfold wL_lawOf_176
  refine sp_moveE _ _ _ (br_t rfl (br_t rfl (br_t rfl ?_)))
  exact br_t rfl (br_t rfl (br_t rfl (br_t rfl (br_t rfl (br_t rfl sp_307E)))))
/-- what was put doesn't move -/
theorem sp_163 {mc ms kc ks k x0 x1 y0 y1 : Nat} {t c dx dy : Int32} {a1 a2 a3 : Nat → Int32} (h : sp_K k (sp_4 x0 x1 y0 y1) t c a1 a2 a3) (hx : x0 ≤ x1) (hy : y0 ≤ y1) (hb : ¬ (¬ dx < -nI x0 ∧ ¬ 100 - nI x1 ≤ dx ∧ ¬ dy < -nI y0 ∧ ¬ 100 - nI y1 ≤ dy)) : wL_lawOf_163 (fun r _ => r = 1) mc ms (nI k) dx dy (nI x0) (nI x1) (nI y0) (nI y1) 1 kc ks t c a1 a2 a3 := by
  unfold wL_lawOf_163 wL_lawOf_164 wL_lawOf_166
  refine br_t rfl ?_
  unfold wL_lawOf_176
  refine sp_moveB h hb (br_t rfl (br_t rfl (br_t rfl ?_)))
  have n10 : ¬ (1 : Int32) = 0 := by decide
  refine br_f n10 (br_f n10 (br_f n10 (br_f n10 (br_f n10 (br_f n10 ?_)))))
  rw [Int32.add_zero, Int32.add_zero, Int32.add_zero, Int32.add_zero]
  exact sp_307 h hx hy
/-- what was put moves -/
theorem sp_164 {mc ms kc ks k x0 x1 y0 y1 : Nat} {t c dx dy : Int32} {a1 a2 a3 : Nat → Int32} (h : sp_K k (sp_4 x0 x1 y0 y1) t c a1 a2 a3) (hx : x0 ≤ x1) (hx1 : x1 ≤ 99) (hy : y0 ≤ y1) (hy1 : y1 ≤ 99) (n1 : ¬ dx < -nI x0) (n2 : ¬ 100 - nI x1 ≤ dx) (n3 : ¬ dy < -nI y0) (n4 : ¬ 100 - nI y1 ≤ dy) : wL_lawOf_164 (fun r _ => r = 1) mc ms (nI k) dx dy (nI x0) (nI x1) (nI y0) (nI y1) 1 1 kc ks t c a1 a2 a3 := by
  have n10 : ¬ (1 : Int32) = 0 := by decide
  obtain ⟨u0, u1, hu, hu1, e0, e1⟩ := sp_mv hx hx1 n1 n2
  obtain ⟨w0, w1, hw, hw1, e2, e3⟩ := sp_mv hy hy1 n3 n4
  unfold wL_lawOf_164 wL_lawOf_166
  refine br_f n10 ?_
  unfold wL_lawOf_176
  refine (sp_move h hx hy n1 n2 n3 n4 e0 e1 e2 e3 hu hu1 hw hw1 (fun b hb => br_t rfl (br_f n10 (br_f n10 ?_))))
  refine br_f n10 (br_f n10 (br_f n10 (br_f n10 (br_f n10 (br_f n10 ?_)))))
  rw [e0, e1, e2, e3]
  exact sp_307 hb hu hw
theorem sp_80 {mc ms kc ks k X Y : Nat} {dx dy : Int32} (hk : k < 10) (hX : X ≤ 9999) (hY : Y ≤ 9999) (hx : X % 100 ≤ X / 100) (hy : Y % 100 ≤ Y / 100) : wL_lawOf_80 (fun r _ => r = 1) mc ms (nI k) (nI X) (nI Y) dx dy 0 0 0 0 1 kc ks 0 0 (fun _ => 0) (fun _ => 0) (fun _ => 0) := by
  unfold wL_lawOf_80
  refine sp_put hk hX hY hx hy (fun r t c a1 a2 a3 h => ?_)
  have hx1 : X / 100 ≤ 99 := by omega
  have hy1 : Y / 100 ≤ 99 := by omega
  refine br_f (by decide) ⟨by decide, nm_r (sp_rem hX) ⟨by decide, nm_r (sp_div hX) ⟨by decide, nm_r (sp_rem hY) ⟨by decide, nm_r (sp_div hY) ?_⟩⟩⟩⟩
  rw [sp_0s, sp_0s, sp_hi hx1, sp_hi hy1]
  exact br_c (fun z => sp_163 h hx hy (fun g => g.1 z)) (fun n1 => br_c (fun z => sp_163 h hx hy (fun g => g.2.1 z)) (fun n2 => br_c (fun z => sp_163 h hx hy (fun g => g.2.2.1 z)) (fun n3 => br_c (fun z => sp_163 h hx hy (fun g => g.2.2.2 z)) (fun n4 => sp_164 h hx hx1 hy hy1 n1 n2 n3 n4))))
theorem sp_g80 {mc ms kc ks : Nat} {p0 p1 p2 dx dy : Int32} (hg : sp_good p0 p1 p2) : wL_lawOf_80 (fun r _ => r = 1) mc ms p0 p1 p2 dx dy 0 0 0 0 1 kc ks 0 0 (fun _ => 0) (fun _ => 0) (fun _ => 0) := by
  obtain ⟨g1, g2, g3, g4, g5, g6, g7, g8⟩ := hg
  rcases pk_ix p0 (n := 10) (by decide) with z | z | ⟨k, hk, rfl⟩
  · exact absurd z g1
  · exact absurd z g2
  rcases pk_ix p1 (n := 10000) (by decide) with z | z | ⟨X, hX, rfl⟩
  · exact absurd z g3
  · exact absurd z g4
  rcases pk_ix p2 (n := 10000) (by decide) with z | z | ⟨Y, hY, rfl⟩
  · exact absurd z g5
  · exact absurd z g6
  rw [sp_rem (show X ≤ 9999 by omega), sp_div (show X ≤ 9999 by omega), nI_ltI (by omega) (by omega)] at g7
  rw [sp_rem (show Y ≤ 9999 by omega), sp_div (show Y ≤ 9999 by omega), nI_ltI (by omega) (by omega)] at g8
  exact sp_80 hk (by omega) (by omega) (by omega) (by omega)
theorem sp_lawOf (p0 p1 p2 p3 p4 : Int32) : wpL_lawOf (fun r _ => r = 1) 30 480 () p0 p1 p2 p3 p4 := by
  refine ⟨by decide, by decide, 3, 100, by decide, by decide, by decide, by decide, by decide, by decide, by decide, by decide, ?_⟩
  refine br_c (fun z => sp_79 (fun g => g.1 z)) (fun n1 => br_c (fun z => sp_79 (fun g => g.2.1 (sp_9.mp z))) (fun n2 => br_c (fun z => sp_79 (fun g => g.2.2.1 z)) (fun n3 => br_c (fun z => sp_79 (fun g => g.2.2.2.1 (sp_9999.mp z))) (fun n4 => br_c (fun z => sp_79 (fun g => g.2.2.2.2.1 z)) (fun n5 => br_c (fun z => sp_79 (fun g => g.2.2.2.2.2.1 (sp_9999.mp z))) (fun n6 => ⟨by decide, by decide, br_c (fun z => sp_79 (fun g => g.2.2.2.2.2.2.1 z)) (fun n7 => ⟨by decide, by decide, br_c (fun z => sp_79 (fun g => g.2.2.2.2.2.2.2 z)) (fun n8 => ?_)⟩)⟩))))))
  exact sp_g80 ⟨n1, fun z => n2 (sp_9.mpr z), n3, fun z => n4 (sp_9999.mpr z), n5, fun z => n6 (sp_9999.mpr z), n7, n8⟩
theorem sp_cell {post : Int32 → Prop} {L : Nat} {xs : Nat → Int32} {u : St0} {i : Nat} (hL : L ≤ 5) (hi : i < 5) (H : ∀ r, post r) : wpL_cellAt post L xs u (nI i) :=
  pk_le L i (fun _ => H _) (fun z => ⟨pk_in i L z, H _⟩)
theorem i_vc (xs : Nat → Int32) (L : Nat) (hL : L ≤ 5) : wpL_law (fun r => r = 1) L xs := by
  unfold wpL_law
  refine sp_cell (i := 0) hL (by omega) (fun r1 => ?_)
  refine sp_cell (i := 1) hL (by omega) (fun r2 => ?_)
  refine sp_cell (i := 2) hL (by omega) (fun r3 => ?_)
  refine sp_cell (i := 3) hL (by omega) (fun r4 => ?_)
  refine sp_cell (i := 4) hL (by omega) (fun r5 => ?_)
  exact ⟨30, 480, by decide, by decide, sp_lawOf r1 r2 r3 r4 r5⟩
end
