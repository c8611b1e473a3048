section
/-! numbers, bits, and the tree as a picture -/
def mt_b (v k : Nat) : Nat := v / 2 ^ (7 - k) % 2
theorem mt_b2 (v k : Nat) : mt_b v k < 2 := Nat.mod_lt _ (by decide)
theorem mt_d0 : (7 : Int32) - nI 0 = 7 := by decide
theorem mt_d1 : ∀ k, k < 9 → ∀ n, n < 9 → ((7 : Int32) - nI k ≤ 7 - nI n ↔ n ≤ k) := by decide +kernel
theorem mt_d2 : ∀ k, k < 9 → (7 : Int32) - nI k + (-1) = 7 - nI (k + 1) := by decide +kernel
theorem mt_d3 : ∀ k, k < 8 → ((((7 : Int32) - nI k) &&& 31).toBitVec.smod 32).toNat = 7 - k := by decide +kernel
theorem mt_d4 : ∀ k, k < 8 → (0 : Int32) ≤ 7 - nI k := by decide +kernel
theorem mt_d5 : ¬ (0 : Int32) ≤ 7 - nI 8 := by decide
theorem mt_d6 : ∀ k, k < 10 → (nI k).toInt16.toInt32 = nI k := by decide +kernel
theorem mt_d7 : ∀ k, k < 10 → (nI k).toInt8.toInt32 = nI k := by decide +kernel
theorem mt_d8 : ∀ n, n < 8 → (1 : Int32) <<< ((8 - nI (n + 1)) &&& 31) = nI (2 ^ (7 - n)) := by decide +kernel
theorem mt_d9 : ∀ n, n < 9 → (256 : Int32) >>> (nI n &&& 31) = nI (2 ^ (8 - n)) := by decide +kernel
theorem mt_d10 : ∀ n, n < 9 → ((((8 : Int32) - (nI n &&& 15)) &&& 31).toBitVec.smod 32).toNat = 8 - n := by decide +kernel
theorem mt_bit {v k : Nat} (hv : v ≤ 255) (hk : k < 8) : (nI v >>> (((7 : Int32) - nI k) &&& 31)) &&& 1 = nI (mt_b v k) := by
  rw [pk_shrN (by omega) _ (7 - k) (mt_d3 k hk)]
  exact pk_andN (Nat.lt_of_le_of_lt (Nat.div_le_self _ _) (by omega)) 1 (by decide)
theorem mt_ix {x : Int32} {v k : Nat} (hx : x = nI v) (hv : v ≤ 255) (hk : k < 8) : (2 : Int32) * nI k + ((x >>> (((7 : Int32) - nI k) &&& 31)) &&& 1) = nI (2 * k + mt_b v k) := by
  rw [hx, mt_bit hv hk, show (2 : Int32) * nI k = nI (2 * k) from pk_mul 2 k, nI_add]
/-! the first k bits of p and v agree -/
def mt_ag (p v k : Nat) : Prop := p / 2 ^ (8 - k) = v / 2 ^ (8 - k)
theorem mt_half (p : Nat) {k : Nat} (hk : k < 8) : p / 2 ^ (8 - k) = p / 2 ^ (7 - k) / 2 := by
  rw [show 8 - k = (7 - k) + 1 by omega, Nat.pow_succ, Nat.div_div_eq_div_mul]
theorem mt_ag_0 {p v : Nat} (hp : p ≤ 255) (hv : v ≤ 255) : mt_ag p v 0 := by
  show p / 256 = v / 256
  omega
theorem mt_ag_s {p v k : Nat} (hk : k < 8) (h : mt_ag p v k) (hb : mt_b p k = mt_b v k) : mt_ag p v (k + 1) := by
  have h' : p / 2 ^ (8 - k) = v / 2 ^ (8 - k) := h
  have hb' : p / 2 ^ (7 - k) % 2 = v / 2 ^ (7 - k) % 2 := hb
  rw [mt_half p hk, mt_half v hk] at h'
  show p / 2 ^ (8 - (k + 1)) = v / 2 ^ (8 - (k + 1))
  rw [show 8 - (k + 1) = 7 - k by omega]
  generalize p / 2 ^ (7 - k) = x at *
  generalize v / 2 ^ (7 - k) = y at *
  omega
theorem mt_ag_e {p v k : Nat} (h : mt_ag p v (k + 1)) : p / 2 ^ (7 - k) = v / 2 ^ (7 - k) := by
  have h' : p / 2 ^ (8 - (k + 1)) = v / 2 ^ (8 - (k + 1)) := h
  rw [show 8 - (k + 1) = 7 - k by omega] at h'
  exact h'
theorem mt_ag_bit {p v k : Nat} (h : mt_ag p v (k + 1)) : mt_b p k = mt_b v k := by
  show p / 2 ^ (7 - k) % 2 = v / 2 ^ (7 - k) % 2
  rw [mt_ag_e h]
theorem mt_ag_d {p v k : Nat} (hk : k < 8) (h : mt_ag p v (k + 1)) : mt_ag p v k := by
  show p / 2 ^ (8 - k) = v / 2 ^ (8 - k)
  rw [mt_half p hk, mt_half v hk, mt_ag_e h]
theorem mt_ag_le {p v k : Nat} : ∀ d, k + d ≤ 8 → mt_ag p v (k + d) → mt_ag p v k := by
  intro d
  induction d with
  | zero => exact fun _ h => h
  | succ d ih => exact fun hd h => ih (by omega) (mt_ag_d (by omega) h)
/-! the tree of one entry (v, n): nodes 0 .. n in a chain; e is what stands at its last node -/
def mt_T (v n : Nat) (a8 a9 : Nat → Int32) (e : Int32) : Prop := (∀ k, k < n → a8 (2 * k + mt_b v k) = nI (k + 1) ∧ a8 (2 * k + (1 - mt_b v k)) = -1 ∧ a9 k = -1) ∧ a8 (2 * n) = -1 ∧ a8 (2 * n + 1) = -1 ∧ a9 n = e
theorem mt_T_leaf {v n b : Nat} {a8 a9 : Nat → Int32} {e : Int32} (h : mt_T v n a8 a9 e) (hb : b < 2) : a8 (2 * n + b) = -1 := by
  have h2 : b = 0 ∨ b = 1 := by omega
  rcases h2 with rfl | rfl
  · exact h.2.1
  · exact h.2.2.1
theorem mt_T_fin {v n : Nat} {a8 a9 : Nat → Int32} {e : Int32} (h : mt_T v n a8 a9 e) : mt_T v n a8 (upd a9 n 0) 0 :=
  ⟨fun k hk => ⟨(h.1 k hk).1, (h.1 k hk).2.1, by rw [pk_un (by omega)]; exact (h.1 k hk).2.2⟩, h.2.1, h.2.2.1, pk_us⟩
theorem mt_T_step {v i : Nat} {a8 a9 : Nat → Int32} (h : mt_T v i a8 a9 (-1)) : mt_T v (i + 1) (upd (upd (upd a8 (2 * (i + 1)) (-1)) (2 * (i + 1) + 1) (-1)) (2 * i + mt_b v i) (nI (i + 1))) (upd a9 (i + 1) (-1)) (-1) := by
  have hb := mt_b2 v i
  refine ⟨fun k hk => ?_, ?_, ?_, pk_us⟩
  · have hbk := mt_b2 v k
    by_cases e : k = i
    · subst e
      refine ⟨pk_us, ?_, ?_⟩
      · rw [pk_un (by omega), pk_un (by omega), pk_un (by omega)]
        exact mt_T_leaf h (by omega)
      · rw [pk_un (by omega)]
        exact h.2.2.2
    · obtain ⟨g1, g2, g3⟩ := h.1 k (by omega)
      refine ⟨?_, ?_, ?_⟩
      · rw [pk_un (by omega), pk_un (by omega), pk_un (by omega)]
        exact g1
      · rw [pk_un (by omega), pk_un (by omega), pk_un (by omega)]
        exact g2
      · rw [pk_un (by omega)]
        exact g3
  · rw [pk_un (by omega), pk_un (by omega), pk_us]
  · rw [pk_un (by omega), pk_us]
/-! one entry, at place 0 -/
def mt_E (v n : Nat) (a3 a4 a6 a7 : Nat → Int32) : Prop := a3 0 = 1 ∧ a4 0 = 0 ∧ (∀ j, 1 ≤ j → j < 32 → a4 j = -1) ∧ a6 0 = nI v ∧ a7 0 = nI n
def mt_R (v n : Nat) (tr : Int32) (a8 a9 : Nat → Int32) : Prop := tr = 0 ∨ (tr = 1 ∧ mt_T v n a8 a9 0)
/-! the packet behind the law's call of field -/
def mt_set (x2 x3 x7 : Int32) (A : Nat → Int32) : Prop := (x7 = 1 ∧ ∃ f c : Nat, f ≤ 3 ∧ c ≤ 255 ∧ x2 = nI f ∧ x3 = nI c ∧ A = upd (fun _ => 0) f (nI c)) ∨ (x7 = 0 ∧ (x2 < 0 ∨ 3 < x2 ∨ x3 < 0 ∨ 255 < x3) ∧ A = fun _ => 0)
theorem mt_neP {a4 : Nat → Int32} {x : Int32} (e4 : a4 0 = 0) (e4' : ∀ j, 1 ≤ j → j < 32 → a4 j = -1) (h5 : ¬ x = 0) : 0 ≤ x → ∀ j, j < 32 → ¬ a4 j = x := by
  intro g j hj e
  by_cases h : j = 0
  · subst h
    exact h5 (by rw [← e, e4])
  · rw [e4' j (by omega) hj] at e
    subst e
    exact absurd g (by decide)
theorem mt_neN {a4 : Nat → Int32} {x : Int32} (h : ∀ j, j < 32 → a4 j = -1) : 0 ≤ x → ∀ j, j < 32 → ¬ a4 j = x := by
  intro g j hj e
  rw [h j hj] at e
  subst e
  exact absurd g (by decide)
theorem mt_fill {s : Nat → Int32} {i k : Nat} (hk : k = i) (h : ∀ j, j < i → s j = -1) : ∀ j, j < i + 1 → upd s k (-1) j = -1 := by
  intro j hj
  rw [hk]
  by_cases e : j = i
  · rw [e, pk_us]
  · rw [pk_un e]
    exact h j (by omega)
end
section
/-! the class's small methods -/
section
variable {dr nh tr nc gr gc : Int32} {a1 a2 a3 a4 a5 a6 a7 a8 a9 a10 a11 a12 a13 a14 a15 a16 : Nat → Int32}
theorem mt_init {post : St2 → Prop} (H : ∀ b1 b4 : Nat → Int32, (∀ j, j < 32 → b4 j = -1) → post (3, 0, 0, 0, 0, 0, b1, (fun _ => 0), (fun _ => 0), b4, (fun _ => 0), (fun _ => 0), (fun _ => 0), (fun _ => 0), (fun _ => 0), (fun _ => 0), (fun _ => 0), (fun _ => 0), (fun _ => 0), (fun _ => 0), (fun _ => 0), (fun _ => 0))) : wpX_init post 16 884 (0, 0, 0, 0, 0, 0) := by
  refine ⟨by decide, by decide, by decide, by decide, by decide, by decide, by decide, by decide, by decide, by decide, by decide, by decide, by decide, by decide, by decide, by decide, by decide, by decide, by decide, by decide, by decide, by decide, by decide, by decide, by decide, by decide, by decide, by decide, by decide, by decide, by decide, by decide, nm_e (nm_e ?_)⟩
  exact pk_loop (fun n i s => wX_init_154 post 16 884 16 884 3 0 0 0 0 0 n (nI i) (upd (upd (fun _ => 0) 0 3) 1 3) (fun _ => 0) (fun _ => 0) s (fun _ => 0) (fun _ => 0) (fun _ => 0) (fun _ => 0) (fun _ => 0) (fun _ => 0) (fun _ => 0) (fun _ => 0) (fun _ => 0) (fun _ => 0) (fun _ => 0) (fun _ => 0)) (fun i s => ∀ j, j < i → s j = -1) 32 0 (fun _ => 0) (by omega) (fun j hj => absurd hj (by omega))
    (fun n s h => pk_le 32 32 (fun _ => H _ s h) (fun z => absurd z (by omega)))
    (fun n i s hi h hw => pk_le 32 i (fun z => absurd z (by omega)) (fun _ => ⟨pk_in i 32 hi, nm_e (nm_r (nI_1 i) (hw _ (mt_fill (nI_clamp (by omega)) h)))⟩))
theorem mt_addPut {post : Int32 → St2 → Prop} {v n : Nat} (hv : v ≤ 255) (hn : n ≤ 8) (h3 : a3 0 = 0) (h4 : a4 0 = -1) (H : post 0 (dr, 1, 0, nc, gr, gc, a1, a2, (upd a3 0 1), (upd a4 0 0), (upd a5 0 dr), (upd a6 0 (nI v)), (upd a7 0 (nI n)), a8, a9, a10, a11, a12, a13, a14, a15, a16)) : wpX_addPrefix post (dr, 0, tr, nc, gr, gc, a1, a2, a3, a4, a5, a6, a7, a8, a9, a10, a11, a12, a13, a14, a15, a16) (nI v) (nI n) := by
  unfold wpX_addPrefix
  refine br_t (by rw [h3]; decide) (br_f (nI_pos (by omega)) (pk_lt 255 v (fun z => absurd z (by omega)) (fun _ => br_f (nI_pos (by omega)) (pk_le n 8 (fun _ => ?_) (fun z => absurd z (by omega))))))
  unfold wpX_addEntry
  refine nm_r (e' := nI 0) (by decide) ⟨1, ?_⟩
  have z0 : (nI 0).toNatClampNeg = 0 := nI_clamp (by omega)
  refine ⟨pk_in 0 32 (by omega), br_t (by rw [z0, h4]; decide) ⟨pk_in 0 32 (by omega), nm_r (e' := upd a4 0 0) (by rw [z0]) ⟨pk_in 0 32 (by omega), nm_r (e' := upd a5 0 dr) (by rw [z0]) ⟨pk_in 0 32 (by omega), nm_r (e' := upd a6 0 (nI v)) (by rw [z0]) ⟨pk_in 0 32 (by omega), nm_r (e' := upd a7 0 (nI n)) (by rw [z0]) ⟨pk_in 0 2 (by omega), pk_in 0 2 (by omega), nm_r (e' := upd a3 0 1) ?_ (nm_r (e' := 1) (by decide) ?_)⟩⟩⟩⟩⟩⟩
  · rw [sb_cl0, h3, show ((0 : Int32) + 1).toInt8.toInt32 = 1 by decide]
  · exact ek_v (P := fun r => post r _) (show (1 : Int32) - 1 = 0 by decide) H
theorem mt_addBad {post : Int32 → St2 → Prop} {x0 x1 : Int32} (hb : x0 < 0 ∨ 255 < x0 ∨ x1 < 0 ∨ 8 < x1) (h3 : a3 0 = 0) (H : post (-1) (dr, nh, tr, nc, gr, gc, a1, a2, a3, a4, a5, a6, a7, a8, a9, a10, a11, a12, a13, a14, a15, a16)) : wpX_addPrefix post (dr, nh, tr, nc, gr, gc, a1, a2, a3, a4, a5, a6, a7, a8, a9, a10, a11, a12, a13, a14, a15, a16) x0 x1 := by
  unfold wpX_addPrefix
  refine br_t (by rw [h3]; decide) (br_c (fun _ => H) (fun g1 => br_c (fun _ => H) (fun g2 => br_c (fun _ => H) (fun g3 => br_c (fun g4 => ?_) (fun _ => H)))))
  rcases hb with z | z | z | z
  · exact absurd z g1
  · exact absurd z g2
  · exact absurd z g3
  · exact absurd z (Int32.not_lt.mpr g4)
theorem mt_field {post : Int32 → St2 → Prop} {x2 x3 x7 : Int32} {A : Nat → Int32} (hs : mt_set x2 x3 x7 A) (H : post x7 (dr, nh, tr, nc, gr, gc, a1, A, a3, a4, a5, a6, a7, a8, a9, a10, a11, a12, a13, a14, a15, a16)) : wpX_field post (dr, nh, tr, nc, gr, gc, a1, (fun _ => 0), a3, a4, a5, a6, a7, a8, a9, a10, a11, a12, a13, a14, a15, a16) x2 x3 := by
  unfold wpX_field
  rcases hs with ⟨rfl, f, c, hf, hc, rfl, rfl, rfl⟩ | ⟨rfl, hb, rfl⟩
  · exact br_f (nI_pos (by omega)) (pk_lt 3 f (fun z => absurd z (by omega)) (fun _ => br_f (nI_pos (by omega)) (pk_le c 255 (fun _ => ⟨pk_in f 4 (by omega), nm_r (by rw [nI_clamp (by omega)]) H⟩) (fun z => absurd z (by omega)))))
  · refine br_c (fun _ => H) (fun g1 => br_c (fun _ => H) (fun g2 => br_c (fun _ => H) (fun g3 => br_c (fun g4 => ?_) (fun _ => H))))
    rcases hb with z | z | z | z
    · exact absurd z g1
    · exact absurd z g2
    · exact absurd z g3
    · exact absurd z (Int32.not_lt.mpr g4)
theorem mt_ew_none {post : Int32 → Prop} {x : Int32} (h : 0 ≤ x → ∀ j, j < 32 → ¬ a4 j = x) (H : post (-1)) : wpX_entryWith post (dr, nh, tr, nc, gr, gc, a1, a2, a3, a4, a5, a6, a7, a8, a9, a10, a11, a12, a13, a14, a15, a16) x := by
  unfold wpX_entryWith
  refine br_c (fun g => ?_) (fun _ => H)
  exact pk_loop (σ := Unit) (fun n i _ => wX_entryWith_8 post x dr nh tr nc gr gc a1 a2 a3 a4 a5 a6 a7 a8 a9 a10 a11 a12 a13 a14 a15 a16 n (nI i)) (fun _ _ => True) 32 0 () (by omega) trivial
    (fun n _ _ => pk_le 32 32 (fun _ => H) (fun z => absurd z (by omega)))
    (fun n i _ hi _ hw => pk_le 32 i (fun z => absurd z (by omega)) (fun _ => ⟨pk_in i 32 hi, br_f (by rw [nI_clamp (by omega)]; exact h g i hi) (nm_r (nI_1 i) (hw () trivial))⟩))
theorem mt_ew_0 {post : Int32 → Prop} (h : a4 0 = 0) (H : post 0) : wpX_entryWith post (dr, nh, tr, nc, gr, gc, a1, a2, a3, a4, a5, a6, a7, a8, a9, a10, a11, a12, a13, a14, a15, a16) 0 := by
  unfold wpX_entryWith
  exact br_t (by decide) ⟨1, br_f (by decide) ⟨pk_in 0 32 (by omega), br_t (by rw [sb_cl0]; exact h) H⟩⟩
theorem mt_remN {post : Int32 → St2 → Prop} {x : Int32} (h : 0 ≤ x → ∀ j, j < 32 → ¬ a4 j = x) (H : post (-3) (dr, nh, tr, nc, gr, gc, a1, a2, a3, a4, a5, a6, a7, a8, a9, a10, a11, a12, a13, a14, a15, a16)) : wpX_remove post (dr, nh, tr, nc, gr, gc, a1, a2, a3, a4, a5, a6, a7, a8, a9, a10, a11, a12, a13, a14, a15, a16) x := by
  unfold wpX_remove
  exact mt_ew_none h (br_f (by decide) H)
theorem mt_rem0 {post : Int32 → St2 → Prop} (h4 : a4 0 = 0) (h3 : a3 0 = 1) (H : ∀ b3 b4, post 0 (dr, nh, 0, nc, 0, gc, a1, a2, b3, b4, a5, a6, a7, a8, a9, a10, a11, a12, a13, a14, a15, a16)) : wpX_remove post (dr, nh, tr, nc, gr, gc, a1, a2, a3, a4, a5, a6, a7, a8, a9, a10, a11, a12, a13, a14, a15, a16) 0 := by
  unfold wpX_remove
  have z0 : (nI 0).toNatClampNeg = 0 := nI_clamp (by omega)
  refine mt_ew_0 h4 (br_t (by decide) ⟨by decide, nm_r (e' := nI 0) (by decide) ⟨pk_in 0 32 (by omega), nm_e ⟨pk_in 0 2 (by omega), pk_in 0 2 (by omega), nm_r (e' := upd a3 0 0) ?_ ⟨pk_in 0 2 (by omega), ?_⟩⟩⟩⟩)
  · rw [z0, h3, show ((1 : Int32) - 1).toInt8.toInt32 = 0 by decide]
  · exact ek_v (P := fun r => post r _) (show upd a3 0 0 (nI 0).toNatClampNeg = 0 by rw [z0, pk_us]) (H _ _)
theorem mt_ownN {post : Int32 → St2 → Prop} {x : Int32} (h : 0 ≤ x → ∀ j, j < 32 → ¬ a4 j = x) (H : post (-3) (dr, nh, tr, nc, gr, gc, a1, a2, a3, a4, a5, a6, a7, a8, a9, a10, a11, a12, a13, a14, a15, a16)) : wpX_owned post (dr, nh, tr, nc, gr, gc, a1, a2, a3, a4, a5, a6, a7, a8, a9, a10, a11, a12, a13, a14, a15, a16) x := by
  unfold wpX_owned
  exact mt_ew_none h (br_t (by decide) H)
end
/-! table 1 is empty: no group -/
section
variable {dr nh tr nc gr gc : Int32} {a1 a2 a3 a4 a5 a6 a7 a8 a9 a10 a11 a12 a13 a14 a15 a16 : Nat → Int32}
theorem mt_sort {post : St2 → Prop} (H : post (dr, nh, tr, nc, gr, 0, a1, a2, a3, a4, a5, a6, a7, a8, a9, a10, a11, a12, a13, a14, a15, a16)) : wpX_sortGroups post (dr, nh, tr, nc, gr, 0, a1, a2, a3, a4, a5, a6, a7, a8, a9, a10, a11, a12, a13, a14, a15, a16) := by
  unfold wpX_sortGroups
  exact ⟨1, br_t (by decide) H⟩
theorem mt_76 {post : St2 → Prop} (h4 : ∀ j, 16 ≤ j → j < 32 → a4 j = -1) (H : post (dr, nh, tr, nc, gr, gc, a1, a2, a3, a4, a5, a6, a7, a8, a9, a10, a11, a12, a13, a14, a15, a16)) : ∃ n, wX_makeGroups_76 post n 16 dr nh tr nc gr gc a1 a2 a3 a4 a5 a6 a7 a8 a9 a10 a11 a12 a13 a14 a15 a16 :=
  pk_loop (σ := Unit) (fun n i _ => wX_makeGroups_76 post n (nI i) dr nh tr nc gr gc a1 a2 a3 a4 a5 a6 a7 a8 a9 a10 a11 a12 a13 a14 a15 a16) (fun i _ => 16 ≤ i) 32 16 () (by omega) (by omega)
    (fun n _ _ => pk_le 32 32 (fun _ => H) (fun z => absurd z (by omega)))
    (fun n i _ hi h hw => pk_le 32 i (fun z => absurd z (by omega)) (fun _ => ⟨pk_in i 32 hi, br_t (by rw [nI_clamp (by omega), h4 i h hi]; decide) (nm_r (nI_1 i) (hw () (by omega)))⟩))
theorem mt_43 {post : St2 → Prop} (h4 : ∀ j, 16 ≤ j → j < 32 → a4 j = -1) (H : post (dr, nh, tr, nc, gr, 0, a1, a2, a3, a4, a5, a6, a7, a8, a9, a10, a11, a12, a13, a14, a15, a16)) : ∃ n, wX_makeGroups_43 post n 16 dr nh tr nc gr 0 a1 a2 a3 a4 a5 a6 a7 a8 a9 a10 a11 a12 a13 a14 a15 a16 :=
  pk_loop (σ := Unit) (fun n i _ => wX_makeGroups_43 post n (nI i) dr nh tr nc gr 0 a1 a2 a3 a4 a5 a6 a7 a8 a9 a10 a11 a12 a13 a14 a15 a16) (fun i _ => 16 ≤ i) 32 16 () (by omega) (by omega)
    (fun n _ _ => pk_le 32 32 (fun _ => mt_sort (mt_76 h4 H)) (fun z => absurd z (by omega)))
    (fun n i _ hi h hw => pk_le 32 i (fun z => absurd z (by omega)) (fun _ => ⟨pk_in i 32 hi, br_t (by rw [nI_clamp (by omega), h4 i h hi]; decide) (nm_r (nI_1 i) (hw () (by omega)))⟩))
theorem mt_grp {post : St2 → Prop} (h4 : ∀ j, 16 ≤ j → j < 32 → a4 j = -1) (H : ∀ b15, post (dr, nh, tr, nc, 1, 0, a1, a2, a3, a4, a5, a6, a7, a8, a9, a10, a11, a12, a13, a14, b15, a16)) : wpX_makeGroups post (dr, nh, tr, nc, 0, gc, a1, a2, a3, a4, a5, a6, a7, a8, a9, a10, a11, a12, a13, a14, a15, a16) := by
  unfold wpX_makeGroups
  refine br_t rfl ?_
  exact pk_loop (fun n i s => wX_makeGroups_20 post dr nh tr nc 1 0 n (nI i) a1 a2 a3 a4 a5 a6 a7 a8 a9 a10 a11 a12 a13 a14 s a16) (fun _ _ => True) 128 0 a15 (by omega) trivial
    (fun n s _ => pk_le 128 128 (fun _ => mt_43 h4 (H s)) (fun z => absurd z (by omega)))
    (fun n i s hi _ hw => pk_le 128 i (fun z => absurd z (by omega)) (fun _ => ⟨pk_in i 128 hi, nm_e (nm_r (nI_1 i) (hw _ trivial))⟩))
theorem mt_gp {post : Int32 → St2 → Prop} (h4 : ∀ j, 16 ≤ j → j < 32 → a4 j = -1) (H : ∀ b15, post (-1) (dr, nh, tr, nc, 1, 0, a1, a2, a3, a4, a5, a6, a7, a8, a9, a10, a11, a12, a13, a14, b15, a16)) : wpX_greatestPriority post (dr, nh, tr, nc, 0, gc, a1, a2, a3, a4, a5, a6, a7, a8, a9, a10, a11, a12, a13, a14, a15, a16) := by
  unfold wpX_greatestPriority
  exact mt_grp h4 (fun b15 => nm_e ⟨1, br_t (by decide) (H b15)⟩)
end
end
section
/-! the tree: made and walked -/
section
variable {dr nh tr nc gr gc : Int32} {a1 a2 a3 a4 a5 a6 a7 a8 a9 a10 a11 a12 a13 a14 a15 a16 : Nat → Int32}
theorem mt_newNode {post : Int32 → St2 → Prop} {k : Nat} (hk : k < 129) (H : post (nI k) (dr, nh, tr, (nI (k + 1)), gr, gc, a1, a2, a3, a4, a5, a6, a7, (upd (upd a8 (2 * k) (-1)) (2 * k + 1) (-1)), (upd a9 k (-1)), (upd a10 k 0), a11, a12, a13, a14, a15, a16)) : wpX_newNode post (dr, nh, tr, (nI k), gr, gc, a1, a2, a3, a4, a5, a6, a7, a8, a9, a10, a11, a12, a13, a14, a15, a16) := by
  have e2 : (2 : Int32) * nI k = nI (2 * k) := pk_mul 2 k
  have e3 : (2 : Int32) * nI k + 1 = nI (2 * k + 1) := by rw [e2, nI_1]
  have c2 : ((2 : Int32) * nI k).toNatClampNeg = 2 * k := by rw [e2]; exact nI_clamp (by omega)
  have c3 : ((2 : Int32) * nI k + 1).toNatClampNeg = 2 * k + 1 := by rw [e3]; exact nI_clamp (by omega)
  have c1 : (nI k).toNatClampNeg = k := nI_clamp (by omega)
  unfold wpX_newNode
  exact nm_r (e' := nI (k + 1)) (nI_1 k) ⟨pk_in (2 * k) 258 (by omega) e2, nm_r (e' := upd a8 (2 * k) (-1)) (by rw [c2]) ⟨pk_in (2 * k + 1) 258 (by omega) e3, nm_r (e' := upd (upd a8 (2 * k) (-1)) (2 * k + 1) (-1)) (by rw [c3]) ⟨pk_in k 129 hk, nm_r (e' := upd a9 k (-1)) (by rw [c1]) ⟨pk_in k 129 hk, nm_r (e' := upd a10 k 0) (by rw [c1]) H⟩⟩⟩⟩
theorem mt_build {post : Int32 → St2 → Prop} {v m : Nat} {p0 p1 : Int32} (hv : v ≤ 255) (hm : m ≤ 8) (e0 : p0 = nI v) (e1 : p1 = nI m) (hT : mt_T v 0 a8 a9 (-1)) (H : ∀ b8 b9 b10, mt_T v m b8 b9 (-1) → post (nI m) (dr, nh, tr, (nI (m + 1)), gr, gc, a1, a2, a3, a4, a5, a6, a7, b8, b9, b10, a11, a12, a13, a14, a15, a16)) : wpX_nodeFor post (dr, nh, tr, (nI 1), gr, gc, a1, a2, a3, a4, a5, a6, a7, a8, a9, a10, a11, a12, a13, a14, a15, a16) p0 p1 := by
  subst e0 e1
  have L : ∃ n, wX_nodeFor_6 post (nI v) (nI m) n (nI 0) (7 - nI 0) dr nh tr (nI (0 + 1)) gr gc a1 a2 a3 a4 a5 a6 a7 a8 a9 a10 a11 a12 a13 a14 a15 a16 := by
    refine pk_loop (fun n i (s : (Nat → Int32) × (Nat → Int32) × (Nat → Int32)) => wX_nodeFor_6 post (nI v) (nI m) n (nI i) (7 - nI i) dr nh tr (nI (i + 1)) gr gc a1 a2 a3 a4 a5 a6 a7 s.1 s.2.1 s.2.2 a11 a12 a13 a14 a15 a16) (fun i s => mt_T v i s.1 s.2.1 (-1)) m 0 (a8, a9, a10) (by omega) hT (fun n s h => br_t ((mt_d1 m (by omega) m (by omega)).mpr (Nat.le_refl m)) (H _ _ _ h)) ?_
    intro n i s hi h hw
    have hb := mt_b2 v i
    have hx : ¬ (7 : Int32) - nI i ≤ 7 - nI m := fun z => absurd ((mt_d1 i (by omega) m (by omega)).mp z) (by omega)
    have c5 : (nI (2 * i + mt_b v i)).toNatClampNeg = 2 * i + mt_b v i := nI_clamp (by omega)
    refine br_f hx (nm_r (mt_ix rfl hv (by omega)) ⟨pk_in (2 * i + mt_b v i) 258 (by omega), br_f ?_ ?_⟩)
    · rw [c5, mt_T_leaf h hb]
      decide
    · refine mt_newNode (k := i + 1) (by omega) ⟨pk_in (2 * i + mt_b v i) 258 (by omega), nm_r (e' := upd (upd (upd s.1 (2 * (i + 1)) (-1)) (2 * (i + 1) + 1) (-1)) (2 * i + mt_b v i) (nI (i + 1))) ?_ ⟨pk_in (2 * i + mt_b v i) 258 (by omega), nm_r (e' := nI (i + 1)) ?_ (nm_r (mt_d2 i (by omega)) (hw (_, _, _) (mt_T_step h)))⟩⟩
      · rw [c5, mt_d6 (i + 1) (by omega)]
      · rw [c5, pk_us]
  rw [mt_d0] at L
  exact L
theorem mt_walk {post : Int32 → St2 → Prop} {v m : Nat} {p0 p1 e : Int32} (hv : v ≤ 255) (hm : m ≤ 8) (e0 : p0 = nI v) (e1 : p1 = nI m) (hT : mt_T v m a8 a9 e) (H : post (nI m) (dr, nh, tr, nc, gr, gc, a1, a2, a3, a4, a5, a6, a7, a8, a9, a10, a11, a12, a13, a14, a15, a16)) : wpX_nodeFor post (dr, nh, tr, nc, gr, gc, a1, a2, a3, a4, a5, a6, a7, a8, a9, a10, a11, a12, a13, a14, a15, a16) p0 p1 := by
  subst e0 e1
  have L : ∃ n, wX_nodeFor_6 post (nI v) (nI m) n (nI 0) (7 - nI 0) dr nh tr nc gr gc a1 a2 a3 a4 a5 a6 a7 a8 a9 a10 a11 a12 a13 a14 a15 a16 := by
    refine pk_loop (σ := Unit) (fun n i _ => wX_nodeFor_6 post (nI v) (nI m) n (nI i) (7 - nI i) dr nh tr nc gr gc a1 a2 a3 a4 a5 a6 a7 a8 a9 a10 a11 a12 a13 a14 a15 a16) (fun _ _ => True) m 0 () (by omega) trivial (fun n _ _ => br_t ((mt_d1 m (by omega) m (by omega)).mpr (Nat.le_refl m)) H) ?_
    intro n i _ hi _ hw
    have hb := mt_b2 v i
    have hx : ¬ (7 : Int32) - nI i ≤ 7 - nI m := fun z => absurd ((mt_d1 i (by omega) m (by omega)).mp z) (by omega)
    have c : a8 (nI (2 * i + mt_b v i)).toNatClampNeg = nI (i + 1) := by rw [nI_clamp (by omega)]; exact (hT.1 i hi).1
    exact br_f hx (nm_r (mt_ix rfl hv (by omega)) ⟨pk_in (2 * i + mt_b v i) 258 (by omega), br_t (by rw [c]; exact nI_pos' (by omega)) ⟨pk_in (2 * i + mt_b v i) 258 (by omega), nm_r c (nm_r (mt_d2 i (by omega)) (hw () trivial))⟩⟩)
  rw [mt_d0] at L
  exact L
theorem mt_rest {post : St2 → Prop} {i0 : Nat} (h4 : ∀ j, i0 ≤ j → j < 16 → a4 j = -1) (H : post (dr, nh, tr, nc, gr, gc, a1, a2, a3, a4, a5, a6, a7, a8, a9, a10, a11, a12, a13, a14, a15, a16)) : ∀ n i, i0 ≤ i → i ≤ 16 → 16 - i < n → wX_makeTree_25 post n (nI i) dr nh tr nc gr gc a1 a2 a3 a4 a5 a6 a7 a8 a9 a10 a11 a12 a13 a14 a15 a16 := by
  intro n i h1 h2 h3
  exact loop_i (σ := Unit) (fun n i _ => wX_makeTree_25 post n (nI i) dr nh tr nc gr gc a1 a2 a3 a4 a5 a6 a7 a8 a9 a10 a11 a12 a13 a14 a15 a16) (fun i _ => i0 ≤ i) 16
    (fun n _ _ => pk_le 16 16 (fun _ => H) (fun z => absurd z (by omega)))
    (fun n i _ hi h hw => pk_le 16 i (fun z => absurd z (by omega)) (fun _ => ⟨pk_in i 32 (by omega), br_f (by rw [nI_clamp (by omega), h4 i h hi]; decide) (nm_r (nI_1 i) (hw () (Nat.le_succ_of_le h)))⟩)) n i () h2 h3 h1
theorem mt_mk {post : St2 → Prop} {v n : Nat} (hv : v ≤ 255) (hn : n ≤ 8) (hE : mt_E v n a3 a4 a6 a7) (hR : mt_R v n tr a8 a9) (H : ∀ c b8 b9 b10, mt_T v n b8 b9 0 → post (dr, nh, 1, c, gr, gc, a1, a2, a3, a4, a5, a6, a7, b8, b9, b10, a11, a12, a13, a14, a15, a16)) : wpX_makeTree post (dr, nh, tr, nc, gr, gc, a1, a2, a3, a4, a5, a6, a7, a8, a9, a10, a11, a12, a13, a14, a15, a16) := by
  unfold wpX_makeTree
  rcases hR with rfl | ⟨rfl, hT⟩
  · obtain ⟨e3, e4, e4', e6, e7⟩ := hE
    refine br_t rfl (mt_newNode (k := 0) (by omega) ⟨17, ?_⟩)
    refine br_f (by decide) ⟨pk_in 0 32 (by omega), br_t (by rw [sb_cl0, e4]; decide) ⟨pk_in 0 32 (by omega), pk_in 0 32 (by omega), ?_⟩⟩
    refine mt_build hv hn (by rw [sb_cl0]; exact e6) (by rw [sb_cl0]; exact e7) ⟨fun k hk => absurd hk (by omega), by rw [pk_un (by omega), pk_us], pk_us, pk_us⟩ (fun b8 b9 b10 hT => ?_)
    have c1 : (nI n).toNatClampNeg = n := nI_clamp (by omega)
    refine ⟨pk_in n 129 (by omega), pk_in n 129 (by omega), nm_e ⟨pk_in n 129 (by omega), br_t (by rw [c1, hT.2.2.2]; decide) ⟨pk_in n 129 (by omega), nm_r (e' := upd b9 n 0) ?_ (nm_r (e' := nI 1) (by decide) ?_)⟩⟩⟩
    · rw [c1, show (0 : Int32).toInt8.toInt32 = 0 by decide]
    · exact mt_rest (i0 := 1) (fun j h1 h2 => e4' j h1 (by omega)) (H _ _ _ _ (mt_T_fin hT)) 16 1 (by omega) (by omega) (by omega)
  · exact br_f (by decide) (H _ _ _ _ hT)
theorem mt_mkN {post : St2 → Prop} (h4 : ∀ j, j < 32 → a4 j = -1) (H : ∀ c (b8 b9 b10 : Nat → Int32), b8 0 = -1 → b8 1 = -1 → b9 0 = -1 → post (dr, nh, 1, c, gr, gc, a1, a2, a3, a4, a5, a6, a7, b8, b9, b10, a11, a12, a13, a14, a15, a16)) : wpX_makeTree post (dr, nh, 0, nc, gr, gc, a1, a2, a3, a4, a5, a6, a7, a8, a9, a10, a11, a12, a13, a14, a15, a16) := by
  unfold wpX_makeTree
  refine br_t rfl (mt_newNode (k := 0) (by omega) ⟨17, ?_⟩)
  exact mt_rest (i0 := 0) (fun j _ h2 => h4 j (by omega)) (H _ _ _ _ (by rw [pk_un (by omega), pk_us]) pk_us pk_us) 17 0 (by omega) (by omega) (by omega)
theorem mt_lp11 {post : Int32 → St2 → Prop} {v n p : Nat} (hn : n ≤ 8) (hp : p ≤ 255) (h2 : a2 0 = nI p) (hT : mt_T v n a8 a9 0) (H1 : mt_ag p v n → post 0 (dr, nh, tr, nc, gr, gc, a1, a2, a3, a4, a5, a6, a7, a8, a9, a10, a11, a12, a13, a14, a15, a16)) (H2 : ¬ mt_ag p v n → post (-1) (dr, nh, tr, nc, gr, gc, a1, a2, a3, a4, a5, a6, a7, a8, a9, a10, a11, a12, a13, a14, a15, a16)) : ∀ d k, k + d = n → mt_ag p v k → wX_longestPrefix_11 post dr nh tr nc gr gc a1 a2 a3 a4 a5 a6 a7 a8 a9 a10 a11 a12 a13 a14 a15 a16 (d + 3) (-1) (nI k) (7 - nI k) := by
  intro d
  induction d with
  | zero =>
    intro k hk hag
    have c1 : (nI k).toNatClampNeg = k := nI_clamp (by omega)
    have en : n = k := by omega
    subst en
    refine br_f (nI_pos (by omega)) ⟨pk_in n 129 (by omega), br_f (by rw [c1, hT.2.2.2]; decide) ⟨pk_in n 129 (by omega), nm_r (e' := 0) (by rw [c1]; exact hT.2.2.2) ?_⟩⟩
    by_cases h8 : n < 8
    · have hb := mt_b2 p n
      refine br_t (mt_d4 n h8) ⟨pk_in (2 * n + mt_b p n) 258 (by omega) (mt_ix h2 hp h8), nm_r (e' := -1) ?_ (nm_e (br_t (by decide) (H1 hag)))⟩
      rw [mt_ix h2 hp h8, nI_clamp (by omega)]
      exact mt_T_leaf hT hb
    · have e8 : n = 8 := by omega
      subst e8
      exact br_f mt_d5 (nm_e (br_t (by decide) (H1 hag)))
  | succ d ih =>
    intro k hk hag
    have h8 : k < 8 := by omega
    have hb := mt_b2 p k
    have hbv := mt_b2 v k
    have c1 : (nI k).toNatClampNeg = k := nI_clamp (by omega)
    have T := hT.1 k (by omega)
    have F : wX_longestPrefix_11 post dr nh tr nc gr gc a1 a2 a3 a4 a5 a6 a7 a8 a9 a10 a11 a12 a13 a14 a15 a16 (d + 3 + 1) (-1) (nI k) (7 - nI k) := by
      refine br_f (nI_pos (by omega)) ⟨pk_in k 129 (by omega), br_t (by rw [c1, T.2.2]; decide) (br_t (mt_d4 k h8) ⟨pk_in (2 * k + mt_b p k) 258 (by omega) (mt_ix h2 hp h8), ?_⟩)⟩
      by_cases e : mt_b p k = mt_b v k
      · refine nm_r (e' := nI (k + 1)) ?_ (nm_r (mt_d2 k (by omega)) (ih (k + 1) (by omega) (mt_ag_s h8 hag e)))
        rw [mt_ix h2 hp h8, nI_clamp (by omega), e]
        exact T.1
      · have hne : ¬ mt_ag p v n := fun z => e (mt_ag_bit (mt_ag_le d (by omega) (by rw [show k + 1 + d = n by omega]; exact z)))
        refine nm_r (e' := -1) ?_ (nm_e (br_t (by decide) (H2 hne)))
        rw [mt_ix h2 hp h8, nI_clamp (by omega), show mt_b p k = 1 - mt_b v k by omega]
        exact T.2.1
    exact F
theorem mt_lpP {post : Int32 → St2 → Prop} {v n p : Nat} (hv : v ≤ 255) (hn : n ≤ 8) (hp : p ≤ 255) (h2 : a2 0 = nI p) (hE : mt_E v n a3 a4 a6 a7) (hR : mt_R v n tr a8 a9) (H1 : ∀ c b8 b9 b10, mt_T v n b8 b9 0 → mt_ag p v n → post 0 (dr, nh, 1, c, gr, gc, a1, a2, a3, a4, a5, a6, a7, b8, b9, b10, a11, a12, a13, a14, a15, a16)) (H2 : ∀ c b8 b9 b10, mt_T v n b8 b9 0 → ¬ mt_ag p v n → post (-1) (dr, nh, 1, c, gr, gc, a1, a2, a3, a4, a5, a6, a7, b8, b9, b10, a11, a12, a13, a14, a15, a16)) : wpX_longestPrefix post (dr, nh, tr, nc, gr, gc, a1, a2, a3, a4, a5, a6, a7, a8, a9, a10, a11, a12, a13, a14, a15, a16) := by
  unfold wpX_longestPrefix
  refine mt_mk hv hn hE hR (fun c b8 b9 b10 hT => ⟨n + 3, ?_⟩)
  have L : wX_longestPrefix_11 post dr nh 1 c gr gc a1 a2 a3 a4 a5 a6 a7 b8 b9 b10 a11 a12 a13 a14 a15 a16 (n + 3) (-1) (nI 0) (7 - nI 0) := mt_lp11 hn hp h2 hT (H1 c b8 b9 b10 hT) (H2 c b8 b9 b10 hT) n 0 (by omega) (mt_ag_0 hp hv)
  rw [mt_d0] at L
  exact L
theorem mt_lpN {post : Int32 → St2 → Prop} {p : Nat} (hp : p ≤ 255) (h2 : a2 0 = nI p) (h4 : ∀ j, j < 32 → a4 j = -1) (H : ∀ c b8 b9 b10, post (-1) (dr, nh, 1, c, gr, gc, a1, a2, a3, a4, a5, a6, a7, b8, b9, b10, a11, a12, a13, a14, a15, a16)) : wpX_longestPrefix post (dr, nh, 0, nc, gr, gc, a1, a2, a3, a4, a5, a6, a7, a8, a9, a10, a11, a12, a13, a14, a15, a16) := by
  unfold wpX_longestPrefix
  refine mt_mkN h4 (fun c b8 b9 b10 g0 g1 g9 => ⟨2, ?_⟩)
  have hb := mt_b2 p 0
  have e := mt_ix h2 hp (show 0 < 8 by decide)
  rw [mt_d0, nI_0, Nat.mul_zero, Nat.zero_add] at e
  refine br_f (by decide) ⟨pk_in 0 129 (by omega), br_t (by rw [sb_cl0, g9]; decide) (br_t (by decide) ⟨pk_in (mt_b p 0) 258 (by omega) e, nm_r (e' := -1) ?_ (nm_e (br_t (by decide) (H _ _ _ _)))⟩)⟩
  rw [e, nI_clamp (by omega)]
  have h01 : mt_b p 0 = 0 ∨ mt_b p 0 = 1 := by omega
  rcases h01 with z | z
  · rw [z]
    exact g0
  · rw [z]
    exact g1
end
end
section
/-! owned, lookup, get -/
section
variable {dr nh tr nc gr gc : Int32} {a1 a2 a3 a4 a5 a6 a7 a8 a9 a10 a11 a12 a13 a14 a15 a16 : Nat → Int32}
theorem mt_loop {post : Int32 → St2 → Prop} {v n : Nat} {e : Int32} (hn : n ≤ 8) (hT : mt_T v n a8 a9 e) (h11 : a11 0 = nI n) (h12 : a12 0 = nI n) (H : ∀ b11 b12, post (nI (2 ^ (8 - n))) (dr, nh, tr, nc, gr, gc, a1, a2, a3, a4, a5, a6, a7, a8, a9, a10, b11, b12, a13, a14, a15, a16)) : wX_owned_79 post (nI n) dr nh tr nc gr gc 5 0 1 a1 a2 a3 a4 a5 a6 a7 a8 a9 a10 a11 a12 a13 a14 a15 a16 := by
  have z0 : (nI 0).toNatClampNeg = 0 := nI_clamp (by omega)
  have z1 : (nI 0 + 1).toNatClampNeg = 1 := by rw [nI_1]; exact nI_clamp (by omega)
  have y1 : (nI 1).toNatClampNeg = 1 := nI_clamp (by omega)
  refine br_f (by decide) (nm_r (e' := nI 0) (by decide) ⟨pk_in 0 20 (by omega), nm_r (e' := nI n) (by rw [z0]; exact h11) ⟨pk_in 0 20 (by omega), nm_r (e' := nI n) (by rw [z0]; exact h12) (br_t (nI_pos' (by omega)) (br_t rfl ?_))⟩⟩)
  by_cases h8 : n = 8
  · subst h8
    exact br_t rfl (nm_r (e' := nI (2 ^ (8 - 8))) (by decide) (br_t (by decide) (H _ _)))
  · have n8 : n < 8 := by omega
    have hx : ¬ nI n = 8 := fun z => h8 ((nI_eq (by omega) (by omega)).mp (show nI n = nI 8 from z))
    have e2 : (2 : Int32) * nI n = nI (2 * n) := pk_mul 2 n
    have e3 : (2 : Int32) * nI n + 1 = nI (2 * n + 1) := by rw [e2, nI_1]
    have c2 : a8 ((2 : Int32) * nI n).toNatClampNeg = -1 := by rw [e2, nI_clamp (by omega)]; exact hT.2.1
    have c3 : a8 ((2 : Int32) * nI n + 1).toNatClampNeg = -1 := by rw [e3, nI_clamp (by omega)]; exact hT.2.2.1
    have cs : vp_nar .short (-1) = -1 := by rw [vp_nar_short]; decide
    have d7 : (nI n + 1).toInt8.toInt32 = nI (n + 1) := by rw [nI_1]; exact mt_d7 (n + 1) (by omega)
    refine br_f hx ⟨pk_in (2 * n) 258 (by omega) e2, pk_in 0 20 (by omega), nm_r (e' := upd a11 0 (-1)) (by rw [c2, cs, z0]) ⟨pk_in 0 20 (by omega), nm_r (e' := upd a12 0 (nI (n + 1))) (by rw [d7, z0]) ⟨pk_in (2 * n + 1) 258 (by omega) e3, pk_in 1 20 (by omega) (nI_1 0), nm_r (e' := upd (upd a11 0 (-1)) 1 (-1)) (by rw [c3, cs, z1]) ⟨pk_in 1 20 (by omega) (nI_1 0), nm_r (e' := upd (upd a12 0 (nI (n + 1))) 1 (nI (n + 1))) (by rw [d7, z1]) (nm_r (e' := nI 2) (by decide) ?_)⟩⟩⟩⟩
    refine br_f (by decide) (nm_r (e' := nI 1) (by decide) ⟨pk_in 1 20 (by omega), nm_r (e' := -1) (by rw [y1, pk_us]) ⟨pk_in 1 20 (by omega), nm_r (e' := nI (n + 1)) (by rw [y1, pk_us]) (br_f (by decide) (nm_r (e' := nI (2 ^ (7 - n))) ?_ ?_))⟩⟩)
    · rw [mt_d8 n n8]
      show nI 0 + nI (2 ^ (7 - n)) = nI (2 ^ (7 - n))
      rw [nI_add, Nat.zero_add]
    · refine br_f (by decide) (nm_r (e' := nI 0) (by decide) ⟨pk_in 0 20 (by omega), nm_r (e' := -1) (by rw [z0, pk_un (by omega), pk_us]) ⟨pk_in 0 20 (by omega), nm_r (e' := nI (n + 1)) (by rw [z0, pk_un (by omega), pk_us]) (br_f (by decide) (nm_r (e' := nI (2 ^ (8 - n))) ?_ (br_t (by decide) (H _ _))))⟩⟩)
      rw [mt_d8 n n8, nI_add, show 8 - n = (7 - n) + 1 by omega, Nat.pow_succ, Nat.mul_two]
theorem mt_own0 {post : Int32 → St2 → Prop} {v n : Nat} (hv : v ≤ 255) (hn : n ≤ 8) (hE : mt_E v n a3 a4 a6 a7) (hR : mt_R v n tr a8 a9) (H : ∀ c b8 b9 b10 b11 b12, post (nI (2 ^ (8 - n))) (dr, nh, 1, c, gr, gc, a1, a2, a3, a4, a5, a6, a7, b8, b9, b10, b11, b12, a13, a14, a15, a16)) : wpX_owned post (dr, nh, tr, nc, gr, gc, a1, a2, a3, a4, a5, a6, a7, a8, a9, a10, a11, a12, a13, a14, a15, a16) 0 := by
  unfold wpX_owned
  refine mt_ew_0 hE.2.1 (br_f (by decide) (br_t (by decide) ?_))
  refine mt_mk hv hn hE hR (fun c b8 b9 b10 hT => ⟨pk_in 0 32 (by omega), pk_in 0 32 (by omega), ?_⟩)
  refine mt_walk hv hn (by rw [sb_cl0]; exact hE.2.2.2.1) (by rw [sb_cl0]; exact hE.2.2.2.2) hT ?_
  refine ⟨pk_in n 129 (by omega), br_t (by rw [nI_clamp (by omega)]; exact hT.2.2.2) (nm_e ⟨pk_in 0 32 (by omega), nm_e ⟨5, ?_⟩⟩)⟩
  exact mt_loop hn hT (by rw [pk_us]; exact mt_d6 n (by omega)) (by rw [pk_us, sb_cl0, hE.2.2.2.2]; exact mt_d7 n (by omega)) (H c b8 b9 b10)
theorem mt_lookP {post : Int32 → St2 → Prop} {v n p : Nat} {x4 : Int32} (hv : v ≤ 255) (hn : n ≤ 8) (hp : p ≤ 255) (h2 : a2 0 = nI p) (hE : mt_E v n a3 a4 a6 a7)
    (Hb : (x4 < 0 ∨ (¬ x4 < 0 ∧ ¬ x4 ≤ 1)) → post (-1) (dr, nh, 0, nc, 0, gc, a1, a2, a3, a4, a5, a6, a7, a8, a9, a10, a11, a12, a13, a14, a15, a16))
    (H0 : x4 = 0 → ∀ c b8 b9 b10, mt_T v n b8 b9 0 → ∀ z, (mt_ag p v n → z = 0) → (¬ mt_ag p v n → z = -3) → post z (dr, nh, 1, c, 0, gc, a1, a2, a3, a4, a5, a6, a7, b8, b9, b10, a11, a12, a13, a14, a15, a16))
    (H1 : ¬ x4 = 0 → ¬ x4 < 0 → x4 ≤ 1 → ∀ b15, post (-3) (dr, nh, 0, nc, 1, 0, a1, a2, a3, a4, a5, a6, a7, a8, a9, a10, a11, a12, a13, a14, b15, a16)) : wpX_lookup post (dr, nh, 0, nc, 0, gc, a1, a2, a3, a4, a5, a6, a7, a8, a9, a10, a11, a12, a13, a14, a15, a16) x4 := by
  unfold wpX_lookup
  refine br_c (fun g => Hb (Or.inl g)) (fun g => br_c (fun g1 => br_c (fun g0 => ?_) (fun g0 => ?_)) (fun g1 => Hb (Or.inr ⟨g, g1⟩)))
  · refine mt_lpP hv hn hp h2 hE (Or.inl rfl) (fun c b8 b9 b10 hT hag => ?_) (fun c b8 b9 b10 hT hag => ?_)
    · exact br_t (by decide) ⟨pk_in 0 32 (by omega), H0 g0 c b8 b9 b10 hT _ (fun _ => by rw [sb_cl0]; exact hE.2.1) (fun z => absurd hag z)⟩
    · exact br_f (by decide) (H0 g0 c b8 b9 b10 hT _ (fun z => absurd z hag) (fun _ => rfl))
  · exact mt_gp (fun j h1 h2 => hE.2.2.1 j (by omega) h2) (fun b15 => br_f (by decide) (H1 g0 g g1 b15))
theorem mt_lookN {post : Int32 → St2 → Prop} {p : Nat} {x4 : Int32} (hp : p ≤ 255) (h2 : a2 0 = nI p) (h4 : ∀ j, j < 32 → a4 j = -1)
    (Hb : (x4 < 0 ∨ (¬ x4 < 0 ∧ ¬ x4 ≤ 1)) → post (-1) (dr, nh, 0, nc, 0, gc, a1, a2, a3, a4, a5, a6, a7, a8, a9, a10, a11, a12, a13, a14, a15, a16))
    (H0 : x4 = 0 → ∀ c b8 b9 b10, post (-3) (dr, nh, 1, c, 0, gc, a1, a2, a3, a4, a5, a6, a7, b8, b9, b10, a11, a12, a13, a14, a15, a16))
    (H1 : ¬ x4 = 0 → ¬ x4 < 0 → x4 ≤ 1 → ∀ b15, post (-3) (dr, nh, 0, nc, 1, 0, a1, a2, a3, a4, a5, a6, a7, a8, a9, a10, a11, a12, a13, a14, b15, a16)) : wpX_lookup post (dr, nh, 0, nc, 0, gc, a1, a2, a3, a4, a5, a6, a7, a8, a9, a10, a11, a12, a13, a14, a15, a16) x4 := by
  unfold wpX_lookup
  refine br_c (fun g => Hb (Or.inl g)) (fun g => br_c (fun g1 => br_c (fun g0 => ?_) (fun g0 => ?_)) (fun g1 => Hb (Or.inr ⟨g, g1⟩)))
  · exact mt_lpN hp h2 h4 (fun c b8 b9 b10 => br_f (by decide) (H0 g0 c b8 b9 b10))
  · exact mt_gp (fun j _ h2 => h4 j h2) (fun b15 => br_f (by decide) (H1 g0 g g1 b15))
end
end
section
/-! the law, from its last check to its first -/
section
variable {dr nh tr nc gr gc : Int32} {a1 a2 a3 a4 a5 a6 a7 a8 a9 a10 a11 a12 a13 a14 a15 a16 : Nat → Int32}
theorem mt_248 {x2 x3 x7 z : Int32} {kc ks : Nat} (hs : mt_set x2 x3 x7 a2) : wL_lawOf_248 (fun r _ => r = 1) 250 3984 x2 x3 x7 z z kc ks dr nh tr nc gr gc a1 a2 a3 a4 a5 a6 a7 a8 a9 a10 a11 a12 a13 a14 a15 a16 := by
  unfold wL_lawOf_248
  refine br_t rfl ?_
  unfold wpX_get
  rcases hs with ⟨rfl, f, c, hf, hc, rfl, rfl, rfl⟩ | ⟨rfl, hb, rfl⟩
  · refine br_f (nI_pos (by omega)) (pk_le f 3 (fun _ => ⟨pk_in f 4 (by omega), ?_⟩) (fun z => absurd z (by omega)))
    refine br_f (nI_pos (by omega)) (pk_le f 3 (fun _ => br_f (by decide) ?_) (fun z => absurd z (by omega)))
    exact br_t (by rw [nI_clamp (by omega), pk_us]) rfl
  · refine br_c (fun g => br_t g (br_t rfl rfl)) (fun g => br_c (fun g3 => ⟨?_, br_f g (br_t g3 (br_t rfl (br_t rfl rfl)))⟩) (fun g3 => br_f g (br_f g3 (br_t rfl rfl))))
    obtain ⟨j, hj, rfl⟩ := nI_of2 (n := 3) (by decide) g g3
    exact pk_in j 4 (by omega)
theorem mt_220p {v n : Nat} {x2 x3 x5 x7 z : Int32} {kc ks : Nat} (hE : mt_E v n a3 a4 a6 a7) (hs : mt_set x2 x3 x7 a2) : wL_lawOf_220 (fun r _ => r = 1) 250 3984 x2 x3 x5 1 x7 z z kc ks dr nh tr nc gr gc a1 a2 a3 a4 a5 a6 a7 a8 a9 a10 a11 a12 a13 a14 a15 a16 := by
  unfold wL_lawOf_220
  refine br_t rfl ?_
  by_cases h5 : x5 = 0
  · subst h5
    exact mt_rem0 hE.2.1 hE.1 (fun b3 b4 => br_f (by decide) (br_t rfl (mt_248 hs)))
  · exact mt_remN (mt_neP hE.2.1 hE.2.2.1 h5) (br_f (by decide) (br_f h5 (mt_248 hs)))
theorem mt_220n {x2 x3 x5 x7 z : Int32} {kc ks : Nat} (h4 : ∀ j, j < 32 → a4 j = -1) (hs : mt_set x2 x3 x7 a2) : wL_lawOf_220 (fun r _ => r = 1) 250 3984 x2 x3 x5 0 x7 z z kc ks dr nh tr nc gr gc a1 a2 a3 a4 a5 a6 a7 a8 a9 a10 a11 a12 a13 a14 a15 a16 := by
  unfold wL_lawOf_220
  refine br_t rfl ?_
  exact mt_remN (mt_neN h4) (br_t rfl (mt_248 hs))
theorem mt_188p {v n : Nat} {x2 x3 x5 x7 z : Int32} {kc ks : Nat} (hv : v ≤ 255) (hn : n ≤ 8) (hE : mt_E v n a3 a4 a6 a7) (hR : mt_R v n tr a8 a9) (hs : mt_set x2 x3 x7 a2) : wL_lawOf_188 (fun r _ => r = 1) 250 3984 (nI n) x2 x3 x5 1 x7 z z kc ks dr nh tr nc gr gc a1 a2 a3 a4 a5 a6 a7 a8 a9 a10 a11 a12 a13 a14 a15 a16 := by
  unfold wL_lawOf_188
  refine br_t rfl ?_
  by_cases h5 : x5 = 0
  · subst h5
    refine mt_own0 hv hn hE hR (fun c b8 b9 b10 b11 b12 => br_f (by decide) (br_t rfl ?_))
    rw [mt_d9 n (by omega)]
    exact mt_220p hE hs
  · exact mt_ownN (mt_neP hE.2.1 hE.2.2.1 h5) (br_f (by decide) (br_f h5 (mt_220p hE hs)))
theorem mt_188n {x1 x2 x3 x5 x7 z : Int32} {kc ks : Nat} (h4 : ∀ j, j < 32 → a4 j = -1) (hs : mt_set x2 x3 x7 a2) : wL_lawOf_188 (fun r _ => r = 1) 250 3984 x1 x2 x3 x5 0 x7 z z kc ks dr nh tr nc gr gc a1 a2 a3 a4 a5 a6 a7 a8 a9 a10 a11 a12 a13 a14 a15 a16 := by
  unfold wL_lawOf_188
  refine br_t rfl ?_
  exact mt_ownN (mt_neN h4) (br_t rfl (mt_220n h4 hs))
theorem mt_131p {v n p : Nat} {x2 x3 x4 x5 x7 x9 z : Int32} {kc ks : Nat} {A : Nat → Int32} (hv : v ≤ 255) (hn : n ≤ 8) (hp : p ≤ 255) (hA : A 0 = nI p) (h9 : (x9 = 1 ∧ mt_ag p v n) ∨ (x9 = 0 ∧ ¬ mt_ag p v n)) (hE : mt_E v n a3 a4 a6 a7) (hs : mt_set x2 x3 x7 A) : wL_lawOf_131 (fun r _ => r = 1) 250 3984 (nI n) x2 x3 x4 x5 1 x7 x9 z z kc ks dr nh 0 nc 0 gc a1 (fun _ => 0) a3 a4 a5 a6 a7 a8 a9 a10 a11 a12 a13 a14 a15 a16 := by
  unfold wL_lawOf_131
  refine br_t rfl (mt_field hs (br_t rfl ?_))
  refine mt_lookP hv hn hp hA hE (fun g => ?_) (fun g0 c b8 b9 b10 hT z hz1 hz2 => ?_) (fun g0 g g1 b15 => ?_)
  · rcases g with g | ⟨g, g1⟩
    · exact br_t g (mt_188p hv hn hE (Or.inl rfl) hs)
    · exact br_f g (br_f g1 (mt_188p hv hn hE (Or.inl rfl) hs))
  · subst g0
    refine br_f (by decide) (br_t (by decide) (br_t rfl ?_))
    rcases h9 with ⟨rfl, hag⟩ | ⟨rfl, hag⟩
    · have ez := hz1 hag
      subst ez
      exact br_f (by decide) (mt_188p hv hn hE (Or.inr ⟨rfl, hT⟩) hs)
    · have ez := hz2 hag
      subst ez
      exact br_t rfl (mt_188p hv hn hE (Or.inr ⟨rfl, hT⟩) hs)
  · exact br_f g (br_t g1 (br_f g0 (mt_188p hv hn hE (Or.inl rfl) hs)))
theorem mt_131n {p : Nat} {x1 x2 x3 x4 x5 x7 z : Int32} {kc ks : Nat} {A : Nat → Int32} (hp : p ≤ 255) (hA : A 0 = nI p) (h4 : ∀ j, j < 32 → a4 j = -1) (hs : mt_set x2 x3 x7 A) : wL_lawOf_131 (fun r _ => r = 1) 250 3984 x1 x2 x3 x4 x5 0 x7 0 z z kc ks dr nh 0 nc 0 gc a1 (fun _ => 0) a3 a4 a5 a6 a7 a8 a9 a10 a11 a12 a13 a14 a15 a16 := by
  unfold wL_lawOf_131
  refine br_t rfl (mt_field hs (br_t rfl ?_))
  refine mt_lookN hp hA h4 (fun g => ?_) (fun g0 c b8 b9 b10 => ?_) (fun g0 g g1 b15 => ?_)
  · rcases g with g | ⟨g, g1⟩
    · exact br_t g (mt_188n h4 hs)
    · exact br_f g (br_f g1 (mt_188n h4 hs))
  · subst g0
    exact br_f (by decide) (br_t (by decide) (br_t rfl (br_t rfl (mt_188n h4 hs))))
  · exact br_f g (br_t g1 (br_f g0 (mt_188n h4 hs)))
end
theorem mt_103p {v n p : Nat} {x2 x3 x4 x5 x7 x9 : Int32} {A : Nat → Int32} (hv : v ≤ 255) (hn : n ≤ 8) (hp : p ≤ 255) (hA : A 0 = nI p) (h9 : (x9 = 1 ∧ mt_ag p v n) ∨ (x9 = 0 ∧ ¬ mt_ag p v n)) (hs : mt_set x2 x3 x7 A) : wL_lawOf_103 (fun r _ => r = 1) 250 3984 (nI v) (nI n) x2 x3 x4 x5 1 x7 x9 0 0 := by
  unfold wL_lawOf_103
  refine ⟨by omega, by omega, 16, 884, by omega, by omega, mt_init (fun b1 b4 h4 => ?_)⟩
  refine mt_addPut hv hn rfl (h4 0 (by omega)) (br_f (by decide) ?_)
  exact mt_131p hv hn hp hA h9 ⟨pk_us, pk_us, fun j h1 h2 => by rw [pk_un (by omega)]; exact h4 j h2, pk_us, pk_us⟩ hs
theorem mt_103n {p : Nat} {x0 x1 x2 x3 x4 x5 x7 : Int32} {A : Nat → Int32} (hb : x0 < 0 ∨ 255 < x0 ∨ x1 < 0 ∨ 8 < x1) (hp : p ≤ 255) (hA : A 0 = nI p) (hs : mt_set x2 x3 x7 A) : wL_lawOf_103 (fun r _ => r = 1) 250 3984 x0 x1 x2 x3 x4 x5 0 x7 0 0 0 := by
  unfold wL_lawOf_103
  refine ⟨by omega, by omega, 16, 884, by omega, by omega, mt_init (fun b1 b4 h4 => ?_)⟩
  refine mt_addBad hb rfl (br_t rfl ?_)
  exact mt_131n hp hA h4 hs
/-- what is owed behind the law's first two flags: 'put' (x6) and the packet -/
def mt_K (x0 x1 x2 x3 x4 x5 x6 : Int32) : Prop := ∀ (x7 : Int32) (p : Nat) (A : Nat → Int32), p ≤ 255 → A 0 = nI p → mt_set x2 x3 x7 A → wL_lawOf_69 (fun r _ => r = 1) 250 3984 x0 x1 x2 x3 x4 x5 x6 x7 (nI p) 0 0
theorem mt_Kp {v n : Nat} {x2 x3 x4 x5 : Int32} (hv : v ≤ 255) (hn : n ≤ 8) : mt_K (nI v) (nI n) x2 x3 x4 x5 1 := by
  intro x7 p A hp hA hs
  unfold wL_lawOf_69
  refine br_f (by decide) (pk_eq (p / 2 ^ (8 - n)) (v / 2 ^ (8 - n)) (fun e => mt_103p hv hn hp hA (Or.inl ⟨rfl, e⟩) hs) (fun e => mt_103p hv hn hp hA (Or.inr ⟨rfl, e⟩) hs) (pk_shrN (by omega) _ (8 - n) (mt_d10 n (by omega))) (pk_shrN (by omega) _ (8 - n) (mt_d10 n (by omega))) ?_ ?_)
  · exact Nat.lt_of_le_of_lt (Nat.div_le_self _ _) (by omega)
  · exact Nat.lt_of_le_of_lt (Nat.div_le_self _ _) (by omega)
theorem mt_Kn {x0 x1 x2 x3 x4 x5 : Int32} (hb : x0 < 0 ∨ 255 < x0 ∨ x1 < 0 ∨ 8 < x1) : mt_K x0 x1 x2 x3 x4 x5 0 := by
  intro x7 p A hp hA hs
  unfold wL_lawOf_69
  exact br_t rfl (mt_103n hb hp hA hs)
theorem mt_53 {x0 x1 x2 x3 x4 x5 x6 x7 : Int32} {A : Nat → Int32} (K : mt_K x0 x1 x2 x3 x4 x5 x6) (hs : mt_set x2 x3 x7 A) : wL_lawOf_53 (fun r _ => r = 1) 250 3984 x0 x1 x2 x3 x4 x5 x6 x7 0 0 := by
  unfold wL_lawOf_53
  have hs' := hs
  rcases hs with ⟨rfl, f, c, hf, hc, rfl, rfl, rfl⟩ | ⟨rfl, hb, rfl⟩
  · refine br_f (by decide) (pk_eq f 0 (fun e => ?_) (fun e => ?_))
    · subst e
      exact K 1 c _ hc pk_us hs'
    · exact K 1 0 _ (by omega) (by rw [pk_un (by omega)]; rfl) hs'
  · exact br_t rfl (K 0 0 (fun _ => 0) (by omega) rfl hs')
theorem mt_26 {x0 x1 x2 x3 x4 x5 x6 : Int32} (K : mt_K x0 x1 x2 x3 x4 x5 x6) : wL_lawOf_26 (fun r _ => r = 1) 250 3984 x0 x1 x2 x3 x4 x5 x6 0 0 := by
  unfold wL_lawOf_26
  refine br_c (fun g => mt_53 K (Or.inr ⟨rfl, Or.inl g, rfl⟩)) (fun g1 => br_c (fun g => mt_53 K (Or.inr ⟨rfl, Or.inr (Or.inl g), rfl⟩)) (fun g2 => br_c (fun g => mt_53 K (Or.inr ⟨rfl, Or.inr (Or.inr (Or.inl g)), rfl⟩)) (fun g3 => br_c (fun g => mt_53 K (Or.inr ⟨rfl, Or.inr (Or.inr (Or.inr g)), rfl⟩)) (fun g4 => ?_))))
  obtain ⟨f, hf, e2⟩ := nI_of2 (n := 3) (by decide) g1 (Int32.not_lt.mp g2)
  obtain ⟨c, hc, e3⟩ := nI_of2 (n := 255) (by decide) g3 (Int32.not_lt.mp g4)
  exact mt_53 K (Or.inl ⟨rfl, f, c, hf, hc, e2, e3, rfl⟩)
theorem mt_lawOf (x0 x1 x2 x3 x4 x5 : Int32) : wpL_lawOf (fun r _ => r = 1) 250 3984 () x0 x1 x2 x3 x4 x5 := by
  unfold wpL_lawOf
  refine br_c (fun g => mt_26 (mt_Kn (Or.inl g))) (fun g1 => br_c (fun g => mt_26 (mt_Kn (Or.inr (Or.inl g)))) (fun g2 => br_c (fun g => mt_26 (mt_Kn (Or.inr (Or.inr (Or.inl g))))) (fun g3 => br_c (fun g => mt_26 (mt_Kn (Or.inr (Or.inr (Or.inr g))))) (fun g4 => ?_))))
  obtain ⟨v, hv, rfl⟩ := nI_of2 (n := 255) (by decide) g1 (Int32.not_lt.mp g2)
  obtain ⟨n, hn, rfl⟩ := nI_of2 (n := 8) (by decide) g3 (Int32.not_lt.mp g4)
  exact mt_26 (mt_Kp hv hn)
end
section
theorem mt_cell {post : Int32 → Prop} {L : Nat} {xs : Nat → Int32} (k : Nat) (hk : k < 6) (hL : L ≤ 6) (H : ∀ r, post r) : wpL_cellAt post L xs () (nI k) :=
  pk_le L k (fun _ => H _) (fun z => ⟨pk_in k L z, H _⟩)
theorem i_vc (xs : Nat → Int32) (L : Nat) (hL : L ≤ 6) : wpL_law (fun r => r = 1) L xs := by
  unfold wpL_law
  exact mt_cell 0 (by omega) hL (fun r1 => mt_cell 1 (by omega) hL (fun r2 => mt_cell 2 (by omega) hL (fun r3 => mt_cell 3 (by omega) hL (fun r4 => mt_cell 4 (by omega) hL (fun r5 => mt_cell 5 (by omega) hL (fun r6 => ⟨250, 3984, by omega, by omega, mt_lawOf r1 r2 r3 r4 r5 r6⟩))))))
end
