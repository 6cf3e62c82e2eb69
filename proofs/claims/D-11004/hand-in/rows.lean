section
/-- bit i of a key -/
def ml_sd (q i : Nat) : Nat := q / 2 ^ i % 2
/-- the tree that one write of key q makes: node i + 1 has node i on the key's side and nothing on the other; node 0 is the leaf -/
def ml_T (q m : Nat) (c : Nat → Int32) : Prop := ∀ i, i < m → c (2 * (i + 1) + ml_sd q i) = nI i ∧ c (2 * (i + 1) + 1 - ml_sd q i) = -1
/-- what changedSince calls inside, at the node of level i on the way to q -/
def ml_in (s : Int32) (q i : Nat) : Int32 := ((s.toUInt32 >>> ((nI (q / 2 ^ i * 2 ^ i)).toUInt32 &&& Int32.toUInt32 31)).toInt32) &&& (((1 : Int32) <<< (nI (2 ^ i) &&& 31)) - 1)
theorem ml_sd2 (q i : Nat) : ml_sd q i < 2 := Nat.mod_lt _ (by decide)
theorem ml_side : ∀ q, q < 32 → ∀ i, i < 5 → (nI q >>> (nI i &&& 31)) &&& 1 = nI (ml_sd q i) := by decide +kernel
theorem ml_inBit : ∀ p, p < 32 → ∀ q, q < 32 → ∀ i, i < 5 → ml_in ((1 : Int32) <<< (nI p &&& 31)) q i = 0 → p ≠ q := by decide +kernel
theorem ml_inBit0 : ∀ p, p < 32 → ∀ q, q < 32 → ¬ ml_in ((1 : Int32) <<< (nI p &&& 31)) q 0 = 0 → p = q := by decide +kernel
theorem ml_bitNe : ∀ p, p < 32 → ¬ ((1 : Int32) <<< (nI p &&& 31)) = 0 := by decide +kernel
theorem ml_inAll : ∀ q, q < 32 → ∀ i, i < 5 → ¬ ml_in (-1) q i = 0 := by decide +kernel
theorem ml_s16 : ∀ t, t < 512 → (nI t).toInt16.toInt32 = nI t := by decide +kernel
theorem ml_s8 : ∀ t, t < 33 → (nI t).toInt8.toInt32 = nI t := by decide +kernel
theorem ml_half : ∀ i, i < 5 → nI (2 ^ (i + 1)) / 2 = nI (2 ^ i) := by decide +kernel
theorem ml_key0 : ∀ q, q < 32 → ∀ i, i < 5 → ml_sd q i = 0 → q / 2 ^ (i + 1) * 2 ^ (i + 1) = q / 2 ^ i * 2 ^ i := by decide +kernel
theorem ml_key1 : ∀ q, q < 32 → ∀ i, i < 5 → ml_sd q i = 1 → q / 2 ^ (i + 1) * 2 ^ (i + 1) + 2 ^ i = q / 2 ^ i * 2 ^ i := by decide +kernel
theorem ml_keyLt : ∀ q, q < 32 → ∀ i, i < 6 → q / 2 ^ i * 2 ^ i < 33 := by decide +kernel
theorem ml_pwLt : ∀ i, i < 6 → 2 ^ i < 33 := by decide +kernel
theorem ml_pw32 : ∀ i, i < 5 → ¬ nI (2 ^ i) = 32 := by decide +kernel
theorem ml_pw1 : ∀ i, i < 5 → ¬ nI (2 ^ (i + 1)) = 1 := by decide +kernel
theorem ml_up : ∀ k, k < 32 → ∀ q, q < 32 → ∀ i, i < 5 → k / 2 ^ (i + 1) = q / 2 ^ (i + 1) → (ml_sd k i = ml_sd q i ↔ k / 2 ^ i = q / 2 ^ i) := by decide +kernel
theorem ml_fill {f s : Nat → Int32} {i k : Nat} {x : Int32} (hk : k = i) (h : ∀ j, j < i → s j = f j) (hx : x = f i) : ∀ j, j < i + 1 → upd s k x j = f j := by
  intro j hj
  rw [hk]
  by_cases e : j = i
  · rw [e, pk_us, hx]
  · rw [pk_un e]
    exact h j (by omega)
theorem ml_in0 {N : Nat} (h : 0 < N) : vp_in 0 N := by
  have t : vp_in (nI 0) N ↔ True := ⟨fun _ => trivial, fun _ => vp_in_iff.mpr ⟨by decide, by rw [show (nI 0).toInt = 0 by decide]; omega⟩⟩
  exact t.mpr trivial
theorem ml_b2 : ∀ b, b < 2 → vp_nar .boolean (nI b) = nI b := by decide +kernel
theorem ml_cl0 : (nI 0).toNatClampNeg = 0 := by decide
theorem ml_keptN : ∀ L, L < 3 → ∀ t, t < 3 → ¬ nI t ≤ nI L - 6 := by decide +kernel
theorem ml_rem6 : ∀ L, L < 3 → nI L - nI L / 6 * 6 = nI L := by decide +kernel
end
section
section
variable {fc ls st : Int32} {a1 a2 a3 a4 a5 a6 a7 a8 a9 a10 a11 a12 a13 a14 a15 a16 a17 a18 : Nat → Int32}
theorem ml_check {post : Int32 → Prop} {t lo hi : Nat} (ht : t < 4) (h1 : lo ≤ hi) (h2 : hi ≤ 31) (ho : ¬ a8 t = 0) (H : post 0) : wpX_check post (fc, ls, st, a1, a2, a3, a4, a5, a6, a7, a8, a9, a10, a11, a12, a13, a14, a15, a16, a17, a18) (nI t) (nI lo) (nI hi) := by
  have hc := nI_clamp (show t < 2 ^ 31 by omega)
  unfold wpX_check
  dsimp only
  rw [hc]
  exact br_f (nI_pos (by omega)) (br_f (nI_nlt (a := 3) (by omega) (by omega)) (br_f (nI_pos (by omega)) (br_f (nI_nlt (a := 31) h2 (by decide)) (br_t (nI_le h1 (by omega)) ⟨vp_in_nI ht (by decide), br_f ho H⟩))))
theorem ml_place {post : Int32 → Prop} {t : Nat} {k : Int32} (ht : t < 4) (h12 : a12 t = 0) (H : post (-1)) : wpX_placeOf post (fc, ls, st, a1, a2, a3, a4, a5, a6, a7, a8, a9, a10, a11, a12, a13, a14, a15, a16, a17, a18) (nI t) k := by
  have hc := nI_clamp (show t < 2 ^ 31 by omega)
  have hz : 6 * nI t + a12 (nI t).toNatClampNeg ≤ 6 * nI t := by
    rw [hc, h12, Int32.add_zero]
    exact Int32.le_refl _
  unfold wpX_placeOf
  dsimp only
  exact nm_e ⟨1, And.intro (vp_in_nI ht (by decide)) (br_t hz H)⟩
theorem ml_leafNeg {post : Int32 → Prop} {k : Int32} (H : post (-1)) : wpX_leafOf post (fc, ls, st, a1, a2, a3, a4, a5, a6, a7, a8, a9, a10, a11, a12, a13, a14, a15, a16, a17, a18) (-1) k := by
  unfold wpX_leafOf
  dsimp only
  exact ⟨1, br_f (by decide) (br_t (by decide) H)⟩
theorem ml_view {post : Int32 → Prop} {t : Nat} {k : Int32} (ht : t < 4) (h12 : a12 t = 0) (h10 : a10 t = -1) (H : post 0) : wpX_inView post (fc, ls, st, a1, a2, a3, a4, a5, a6, a7, a8, a9, a10, a11, a12, a13, a14, a15, a16, a17, a18) (nI t) k := by
  have hc := nI_clamp (show t < 2 ^ 31 by omega)
  unfold wpX_inView
  dsimp only
  refine ml_place ht h12 (br_t (by decide) ⟨vp_in_nI ht (by decide), ?_⟩)
  rw [hc, h10]
  exact ml_leafNeg (br_t (by decide) H)
theorem ml_read {post : Int32 → St2 → Prop} {t k : Nat} (ht : t < 4) (hk : k < 32) (ho : ¬ a8 t = 0) (h12 : a12 t = 0) (h10 : a10 t = -1) (h11 : a11 t = 0)
    (H : post 0 (fc, ls, st, a1, a2, a3, a4, a5, a6, a7, a8, a9, a10, upd a11 t ((1 : Int32) <<< (nI k &&& 31)), a12, a13, a14, a15, a16, a17, a18)) : wpX_read post (fc, ls, st, a1, a2, a3, a4, a5, a6, a7, a8, a9, a10, a11, a12, a13, a14, a15, a16, a17, a18) (nI t) (nI k) := by
  have hc := nI_clamp (show t < 2 ^ 31 by omega)
  unfold wpX_read
  dsimp only
  rw [hc, h11, Int32.zero_or]
  exact ml_check ht (Nat.le_refl k) (by omega) ho (br_t rfl ⟨vp_in_nI ht (by decide), vp_in_nI ht (by decide), nm_e (ml_view ht h12 h10 (br_t rfl H))⟩)
theorem ml_begin {post : Int32 → St2 → Prop} {t : Nat} (ht : t < 4) (ho : a8 t = 0) (h7 : a7 0 = -1)
    (H : post 0 (fc, 0, st, a1, a2, a3, a4, a5, a6, a7, upd a8 t 1, upd a9 t 0, upd a10 t (-1), upd a11 t 0, upd a12 t 0, a13, a14, a15, a16, a17, a18)) : wpX_begin post (fc, 0, st, a1, a2, a3, a4, a5, a6, a7, a8, a9, a10, a11, a12, a13, a14, a15, a16, a17, a18) (nI t) := by
  have hc := nI_clamp (show t < 2 ^ 31 by omega)
  have h6 : ((0 : Int32) - 0 / 6 * 6).toNatClampNeg = 0 := by decide
  have hi : vp_in ((0 : Int32) - 0 / 6 * 6) 6 := vp_in_iff.mpr (by decide)
  have hn : vp_nar .short (-1) = -1 := by decide
  have hv : vp_in (nI t) 4 := vp_in_nI ht (by decide)
  unfold wpX_begin
  dsimp only
  rw [hc, h6, h7, hn]
  exact br_f (nI_pos (by omega)) (br_t (nI_le (b := 3) (by omega) (by decide)) ⟨hv, br_t ho ⟨hv, nm_e ⟨hv, nm_e ⟨by decide, hi, hv, nm_e ⟨hv, nm_e ⟨hv, nm_e H⟩⟩⟩⟩⟩⟩)
theorem ml_put {post : Int32 → St2 → Prop} {t k : Nat} {v b : Int32} (ht : t < 4) (hk : k < 32) (ho : ¬ a8 t = 0) (h12 : a12 t = 0)
    (H : post 1 (fc, ls, st, a1, a2, a3, a4, a5, a6, a7, a8, a9, a10, a11, upd a12 t 1, upd a13 (6 * t) (nI k), upd a14 (6 * t) v, upd a15 (6 * t) (vp_nar .boolean b), a16, a17, a18)) : wpX_put post (fc, ls, st, a1, a2, a3, a4, a5, a6, a7, a8, a9, a10, a11, a12, a13, a14, a15, a16, a17, a18) (nI t) (nI k) v b := by
  have hc := nI_clamp (show t < 2 ^ 31 by omega)
  have hc6 := nI_clamp (show 6 * t < 2 ^ 31 by omega)
  have hv : vp_in (nI t) 4 := vp_in_nI ht (by decide)
  have hw : vp_in (nI (6 * t)) 24 := vp_in_nI (by omega) (by decide)
  have e1 : ((0 : Int32) + 1).toInt8.toInt32 = 1 := by decide
  have e2 : 6 * nI t + 0 = nI (6 * t) := by
    rw [Int32.add_zero]
    exact pk_mul 6 t
  have main : wX_put_77 post (nI t) v b (nI (6 * t)) fc ls st a1 a2 a3 a4 a5 a6 a7 a8 a9 a10 a11 (upd a12 t 1) (upd a13 (6 * t) (nI k)) a14 a15 a16 a17 a18 := by
    unfold wX_put_77
    rw [hc6, hc, pk_us]
    exact ⟨hw, nm_e ⟨hw, nm_e ⟨hv, H⟩⟩⟩
  unfold wpX_put
  dsimp only
  rw [hc, h12, e1, ml_s8 k (by omega), e2]
  refine ml_check ht (Nat.le_refl k) (by omega) ho (br_t rfl (ml_place ht h12 (br_f (by decide) ⟨hv, br_t (by decide) ⟨hv, nm_e ⟨hv, hv, nm_e ⟨hw, ?_⟩⟩⟩⟩)))
  rw [hc6]
  exact nm_e main
theorem ml_write {post : Int32 → St2 → Prop} {t k : Nat} {v : Int32} (ht : t < 4) (hk : k < 32) (ho : ¬ a8 t = 0) (h12 : a12 t = 0)
    (H : post 1 (fc, ls, st, a1, a2, a3, a4, a5, a6, a7, a8, a9, a10, a11, upd a12 t 1, upd a13 (6 * t) (nI k), upd a14 (6 * t) v, upd a15 (6 * t) 1, a16, a17, a18)) : wpX_write post (fc, ls, st, a1, a2, a3, a4, a5, a6, a7, a8, a9, a10, a11, a12, a13, a14, a15, a16, a17, a18) (nI t) (nI k) v := by
  have e : vp_nar .boolean 1 = 1 := by decide
  unfold wpX_write
  dsimp only
  refine ml_put ht hk ho h12 ?_
  rw [e]
  exact H
theorem ml_erase {post : Int32 → St2 → Prop} {t k : Nat} (ht : t < 4) (hk : k < 32) (ho : ¬ a8 t = 0) (h12 : a12 t = 0)
    (H : post 1 (fc, ls, st, a1, a2, a3, a4, a5, a6, a7, a8, a9, a10, a11, upd a12 t 1, upd a13 (6 * t) (nI k), upd a14 (6 * t) 0, upd a15 (6 * t) 0, a16, a17, a18)) : wpX_erase post (fc, ls, st, a1, a2, a3, a4, a5, a6, a7, a8, a9, a10, a11, a12, a13, a14, a15, a16, a17, a18) (nI t) (nI k) := by
  have e : vp_nar .boolean 0 = 0 := by decide
  unfold wpX_erase
  dsimp only
  refine ml_put ht hk ho h12 ?_
  rw [e]
  exact H
theorem ml_peek {post : Int32 → Prop} {t k : Nat} (ht : t < 4) (hk : k < 32) (ho : ¬ a8 t = 0) (h12 : a12 t = 0) (h10 : a10 t = -1) (H : post 0) : wpX_peek post (fc, ls, st, a1, a2, a3, a4, a5, a6, a7, a8, a9, a10, a11, a12, a13, a14, a15, a16, a17, a18) (nI t) (nI k) := by
  have hc := nI_clamp (show t < 2 ^ 31 by omega)
  unfold wpX_peek
  dsimp only
  rw [hc, h10]
  exact ml_check ht (Nat.le_refl k) (by omega) ho (br_t rfl (ml_place ht h12 (br_t (by decide) ⟨vp_in_nI ht (by decide), ml_leafNeg (br_t (by decide) H)⟩)))
theorem ml_pushNeg {post : St2 → Prop} {k z : Int32} (H : post (fc, ls, st, a1, a2, a3, a4, a5, a6, a7, a8, a9, a10, a11, a12, a13, a14, a15, a16, a17, a18)) : wpX_push post (fc, ls, st, a1, a2, a3, a4, a5, a6, a7, a8, a9, a10, a11, a12, a13, a14, a15, a16, a17, a18) (-1) k z := by
  unfold wpX_push
  dsimp only
  exact br_f (by decide) H
theorem ml_push {post : St2 → Prop} {s n k z : Nat} (hs : s < 16) (hn : n < 512) (hk : k < 33) (hz : z < 33)
    (H : post (fc, ls, nI (s + 1), a1, a2, a3, a4, a5, a6, a7, a8, a9, a10, a11, a12, a13, a14, a15, upd a16 s (nI n), upd a17 s (nI k), upd a18 s (nI z))) : wpX_push post (fc, ls, nI s, a1, a2, a3, a4, a5, a6, a7, a8, a9, a10, a11, a12, a13, a14, a15, a16, a17, a18) (nI n) (nI k) (nI z) := by
  have hc := nI_clamp (show s < 2 ^ 31 by omega)
  have hv : vp_in (nI s) 16 := vp_in_nI hs (by decide)
  unfold wpX_push
  dsimp only
  rw [hc, ml_s16 n hn, ml_s8 k hk, ml_s8 z hz, nI_1]
  exact br_t (nI_pos' (by omega)) ⟨hv, nm_e ⟨hv, nm_e ⟨hv, nm_e (nm_e H)⟩⟩⟩
theorem ml_csNeg {post : Int32 → St2 → Prop} {s z : Int32} (H : post 0 (fc, ls, 0, a1, a2, a3, a4, a5, a6, a7, a8, a9, a10, a11, a12, a13, a14, a15, a16, a17, a18)) : wpX_changedSince post (fc, ls, st, a1, a2, a3, a4, a5, a6, a7, a8, a9, a10, a11, a12, a13, a14, a15, a16, a17, a18) (-1) s z := by
  unfold wpX_changedSince
  dsimp only
  refine ml_pushNeg ?_
  dsimp only
  exact ⟨1, br_t (by decide) H⟩
theorem ml_new {post : Int32 → St2 → Prop} {f n : Nat} (hf : f < 512) (hn : n < 512) (h6 : a6 f = nI n)
    (H : post (nI n) (nI f, ls, st, a1, a2, a3, upd a4 n ls, a5, a6, a7, a8, a9, a10, a11, a12, a13, a14, a15, a16, a17, a18)) : wpX_newNode post (nI (f + 1), ls, st, a1, a2, a3, a4, a5, a6, a7, a8, a9, a10, a11, a12, a13, a14, a15, a16, a17, a18) := by
  have hc := nI_clamp (show f < 2 ^ 31 by omega)
  have hm := nI_clamp (show n < 2 ^ 31 by omega)
  unfold wpX_newNode
  dsimp only
  refine nm_r (nI_pred f) ⟨vp_in_nI hf (by decide), ?_⟩
  rw [hc, h6]
  refine nm_e ⟨vp_in_nI hn (by decide), ?_⟩
  rw [hm]
  exact nm_e H
end
end
section
section
variable {fc ls st : Int32} {a1 a2 a3 a4 a5 a6 a7 a8 a9 a10 a11 a12 a13 a14 a15 a16 a17 a18 : Nat → Int32} {mc ms kc ks : Nat}
theorem ml_i207 {post : St2 → Prop} (H : ∀ b10, (∀ j, j < 4 → b10 j = -1) → post (fc, ls, st, a1, a2, a3, a4, a5, a6, a7, a8, a9, b10, a11, a12, a13, a14, a15, a16, a17, a18)) : ∃ n, wX_init_207 post mc ms kc ks fc ls st n 0 a1 a2 a3 a4 a5 a6 a7 a8 a9 a10 a11 a12 a13 a14 a15 a16 a17 a18 :=
  pk_loop (fun n i s => wX_init_207 post mc ms kc ks fc ls st n (nI i) a1 a2 a3 a4 a5 a6 a7 a8 a9 s a11 a12 a13 a14 a15 a16 a17 a18) (fun i s => ∀ j, j < i → s j = -1) 4 0 a10 (by omega) (fun j hj => absurd hj (by omega))
    (fun n s h => pk_le 4 4 (fun _ => H s h) (fun z => absurd z (by omega)))
    (fun n i s hi h hw => pk_le 4 i (fun z => absurd z (by omega)) (fun _ => ⟨pk_in i 4 hi, nm_e (nm_r (nI_1 i) (hw _ (ml_fill (f := fun _ => -1) (nI_clamp (by omega)) h rfl)))⟩))
theorem ml_i186 {post : St2 → Prop} (H : ∀ b7 b10, (∀ j, j < 6 → b7 j = -1) → (∀ j, j < 4 → b10 j = -1) → post (fc, ls, st, a1, a2, a3, a4, a5, a6, b7, a8, a9, b10, a11, a12, a13, a14, a15, a16, a17, a18)) : ∃ n, wX_init_186 post mc ms kc ks fc ls st n 0 a1 a2 a3 a4 a5 a6 a7 a8 a9 a10 a11 a12 a13 a14 a15 a16 a17 a18 :=
  pk_loop (fun n i s => wX_init_186 post mc ms kc ks fc ls st n (nI i) a1 a2 a3 a4 a5 a6 s a8 a9 a10 a11 a12 a13 a14 a15 a16 a17 a18) (fun i s => ∀ j, j < i → s j = -1) 6 0 a7 (by omega) (fun j hj => absurd hj (by omega))
    (fun n s h => pk_le 6 6 (fun _ => ml_i207 (fun b10 h10 => H s b10 h h10)) (fun z => absurd z (by omega)))
    (fun n i s hi h hw => pk_le 6 i (fun z => absurd z (by omega)) (fun _ => ⟨pk_in i 6 hi, nm_e (nm_r (nI_1 i) (hw _ (ml_fill (f := fun _ => -1) (nI_clamp (by omega)) h rfl)))⟩))
theorem ml_i153 {post : St2 → Prop} {x : Int32} (hx : x = nI 512 + (-1)) (H : ∀ b6 b7 b10, (∀ j, j < 512 → b6 j = nI (511 - j)) → (∀ j, j < 6 → b7 j = -1) → (∀ j, j < 4 → b10 j = -1) → post (nI 512, ls, st, a1, a2, a3, a4, a5, b6, b7, a8, a9, b10, a11, a12, a13, a14, a15, a16, a17, a18)) :
    ∃ n, wX_init_153 post mc ms kc ks ls st n x 0 a1 a2 a3 a4 a5 a6 a7 a8 a9 a10 a11 a12 a13 a14 a15 a16 a17 a18 := by
  subst hx
  refine pk_loop (fun n i s => wX_init_153 post mc ms kc ks ls st n (nI (512 - i) + (-1)) (nI i) a1 a2 a3 a4 a5 s a7 a8 a9 a10 a11 a12 a13 a14 a15 a16 a17 a18) (fun i s => ∀ j, j < i → s j = nI (511 - j)) 512 0 a6 (by omega) (fun j hj => absurd hj (by omega)) ?_ ?_
  · intro n s h
    exact br_t (by decide) (ml_i186 (fun b7 b10 h7 h10 => H s b7 b10 h h7 h10))
  · intro n i s hi h hw
    have e1 : nI (512 - i) + (-1) = nI (511 - i) := by
      rw [show 512 - i = (511 - i) + 1 by omega]
      exact pk_m1 _
    have e2 : nI (511 - i) + (-1) = nI (512 - (i + 1)) + (-1) := by
      rw [show 512 - (i + 1) = 511 - i by omega]
    show wX_init_153 post mc ms kc ks ls st (n + 1) (nI (512 - i) + (-1)) (nI i) a1 a2 a3 a4 a5 s a7 a8 a9 a10 a11 a12 a13 a14 a15 a16 a17 a18
    rw [e1]
    exact br_f (nI_pos (by omega)) ⟨pk_in i 512 hi, nm_e (nm_r (nI_1 i) (nm_r e2 (hw _ (ml_fill (f := fun j => nI (511 - j)) (nI_clamp (by omega)) h (ml_s16 _ (by omega))))))⟩
theorem ml_init {post : St2 → Prop} (H : ∀ b6 b7 b10, (∀ j, j < 512 → b6 j = nI (511 - j)) → (∀ j, j < 6 → b7 j = -1) → (∀ j, j < 4 → b10 j = -1) →
    post (nI 512, 0, 0, fun _ => 0, fun _ => 0, fun _ => 0, fun _ => 0, fun _ => 0, b6, b7, fun _ => 0, fun _ => 0, b10, fun _ => 0, fun _ => 0, fun _ => 0, fun _ => 0, fun _ => 0, fun _ => 0, fun _ => 0, fun _ => 0)) :
    wpX_init post 18 3730 (0, 0, 0) := by
  unfold wpX_init
  dsimp only
  refine ⟨by decide, by decide, by decide, by decide, by decide, by decide, by decide, by decide, by decide, by decide, by decide, by decide, by decide, by decide, by decide, by decide, by decide, by decide, ?_⟩
  refine ⟨by decide, by decide, by decide, by decide, by decide, by decide, by decide, by decide, by decide, by decide, by decide, by decide, by decide, by decide, by decide, by decide, by decide, by decide, ?_⟩
  exact ml_i153 (by decide) H
end
end
section
section
variable {fc ls st : Int32} {a1 a2 a3 a4 a5 a6 a7 a8 a9 a10 a11 a12 a13 a14 a15 a16 a17 a18 : Nat → Int32}
theorem ml_Tadd {q i : Nat} {c : Nat → Int32} (h : ml_T q i c) : ml_T q (i + 1) (upd (upd c (2 * (i + 1) + ml_sd q i) (nI i)) (2 * (i + 1) + 1 - ml_sd q i) (-1)) := by
  have hs := ml_sd2 q i
  intro j hj
  have hs' := ml_sd2 q j
  by_cases e : j = i
  · subst e
    constructor
    · rw [pk_un (by omega), pk_us]
    · rw [pk_us]
  · obtain ⟨t1, t2⟩ := h j (by omega)
    constructor
    · rw [pk_un (by omega), pk_un (by omega)]
      exact t1
    · rw [pk_un (by omega), pk_un (by omega)]
      exact t2
theorem ml_w135 {post : Int32 → St2 → Prop} {q : Nat} (hq : q < 32) (h4 : a4 0 = ls) (h6 : ∀ j, j < 512 → a6 j = nI (511 - j)) (h16 : ∀ j, j < 5 → a16 j = -1)
    (H : ∀ b1 b4, ml_T q 5 b1 → (∀ j, j < 6 → b4 j = ls) → post (nI 5) (nI 506, ls, 0, b1, a2, a3, b4, a5, a6, a7, a8, a9, a10, a11, a12, a13, a14, a15, a16, a17, a18)) :
    ∃ n, wX_written_135 post (nI q) n 0 0 (nI 511) ls (nI 5) a1 a2 a3 a4 a5 a6 a7 a8 a9 a10 a11 a12 a13 a14 a15 a16 a17 a18 := by
  refine pk_loop (fun n i (s : (Nat → Int32) × (Nat → Int32)) => wX_written_135 post (nI q) n (nI i) (nI i) (nI (511 - i)) ls (nI (5 - i)) s.1 a2 a3 s.2 a5 a6 a7 a8 a9 a10 a11 a12 a13 a14 a15 a16 a17 a18) (fun i s => ml_T q i s.1 ∧ ∀ j, j < i + 1 → s.2 j = ls) 5 0 (a1, a4) (by omega) ⟨fun j hj => absurd hj (by omega), fun j hj => ?_⟩ ?_ ?_
  · rw [show j = 0 by omega]
    exact h4
  · intro n s h
    exact pk_le 5 5 (fun _ => H s.1 s.2 h.1 h.2) (fun z => absurd z (by omega))
  · intro n i s hi h hw
    have hs := ml_sd2 q i
    have e1 : nI (5 - i) - 1 = nI (4 - i) := by
      rw [show 5 - i = (4 - i) + 1 by omega]
      exact nI_pred _
    have e2 : 511 - i = (510 - i) + 1 := by omega
    have e3 : 2 * nI (i + 1) + nI (ml_sd q i) = nI (2 * (i + 1) + ml_sd q i) := by
      rw [show 2 * nI (i + 1) = nI (2 * (i + 1)) from pk_mul 2 (i + 1), nI_add]
    have e4 : 2 * nI (i + 1) + 1 - nI (ml_sd q i) = nI (2 * (i + 1) + 1 - ml_sd q i) := by
      rw [show 2 * nI (i + 1) = nI (2 * (i + 1)) from pk_mul 2 (i + 1), nI_1, pk_sub (by omega)]
    have hw' := hw (upd (upd s.1 (2 * (i + 1) + ml_sd q i) (nI i)) (2 * (i + 1) + 1 - ml_sd q i) (-1), upd s.2 (i + 1) ls) ⟨ml_Tadd h.1, ml_fill (f := fun _ => ls) rfl h.2 rfl⟩
    have hw2 : wX_written_135 post (nI q) n (nI (i + 1)) (nI (i + 1)) (nI (510 - i)) ls (nI (4 - i)) (upd (upd s.1 (2 * (i + 1) + ml_sd q i) (nI i)) (2 * (i + 1) + 1 - ml_sd q i) (-1)) a2 a3 (upd s.2 (i + 1) ls) a5 a6 a7 a8 a9 a10 a11 a12 a13 a14 a15 a16 a17 a18 := by
      rw [show 510 - i = 511 - (i + 1) by omega, show 4 - i = 5 - (i + 1) by omega]
      exact hw'
    show wX_written_135 post (nI q) (n + 1) (nI i) (nI i) (nI (511 - i)) ls (nI (5 - i)) s.1 a2 a3 s.2 a5 a6 a7 a8 a9 a10 a11 a12 a13 a14 a15 a16 a17 a18
    refine pk_le 5 i (fun z => absurd z (by omega)) (fun _ => nm_r e1 ⟨vp_in_nI (by omega) (by decide), nm_r (e' := -1) ?_ (nm_r (ml_side q hq i hi) ?_)⟩)
    · rw [nI_clamp (by omega)]
      exact h16 _ (by omega)
    · rw [e2]
      refine ml_new (n := i + 1) (by omega) (by omega) ?_ ?_
      · rw [h6 _ (by omega), show 511 - (510 - i) = i + 1 by omega]
      · dsimp only
        rw [e3, e4, nI_clamp (show 2 * (i + 1) + ml_sd q i < 2 ^ 31 by omega), nI_clamp (show 2 * (i + 1) + 1 - ml_sd q i < 2 ^ 31 by omega), ml_s16 i (by omega), nI_1]
        exact ⟨vp_in_nI (by omega) (by decide), nm_e (br_f (by decide) ⟨vp_in_nI (by omega) (by decide), nm_e (nm_e hw2)⟩)⟩
theorem ml_w72 {post : Int32 → St2 → Prop} {q : Nat} {x : Int32} (hx : x = nI 5 + (-1)) (hq : q < 32) (h4 : a4 0 = ls) (h6 : ∀ j, j < 512 → a6 j = nI (511 - j))
    (H : ∀ b1 b4 b16, ml_T q 5 b1 → (∀ j, j < 6 → b4 j = ls) → post (nI 5) (nI 506, ls, 0, b1, a2, a3, b4, a5, a6, a7, a8, a9, a10, a11, a12, a13, a14, a15, b16, a17, a18)) :
    ∃ n, wX_written_72 post (nI q) 0 (nI 511) ls n (-1) x 0 a1 a2 a3 a4 a5 a6 a7 a8 a9 a10 a11 a12 a13 a14 a15 a16 a17 a18 := by
  subst hx
  refine pk_loop (fun n i s => wX_written_72 post (nI q) 0 (nI 511) ls n (-1) (nI (5 - i) + (-1)) (nI i) a1 a2 a3 a4 a5 a6 a7 a8 a9 a10 a11 a12 a13 a14 a15 s a17 a18) (fun i s => ∀ j, j < i → s j = -1) 5 0 a16 (by omega) (fun j hj => absurd hj (by omega)) ?_ ?_
  · intro n s h
    exact br_t (by decide) (ml_w135 hq h4 h6 h (fun b1 b4 t1 t4 => H b1 b4 s t1 t4))
  · intro n i s hi h hw
    have e1 : nI (5 - i) + (-1) = nI (4 - i) := by
      rw [show 5 - i = (4 - i) + 1 by omega]
      exact pk_m1 _
    have e2 : nI (4 - i) + (-1) = nI (5 - (i + 1)) + (-1) := by
      rw [show 5 - (i + 1) = 4 - i by omega]
    show wX_written_72 post (nI q) 0 (nI 511) ls (n + 1) (-1) (nI (5 - i) + (-1)) (nI i) a1 a2 a3 a4 a5 a6 a7 a8 a9 a10 a11 a12 a13 a14 a15 s a17 a18
    rw [e1]
    exact br_f (nI_pos (by omega)) ⟨pk_in i 16 (by omega), nm_e (nm_r (nI_1 i) (br_t (by decide) (nm_r e2 (hw _ (ml_fill (f := fun _ => -1) (nI_clamp (by omega)) h (by decide))))))⟩
theorem ml_written {post : Int32 → St2 → Prop} {q w : Nat} (hq : q < 32) (hw : w < 24) (h13 : a13 w = nI q) (h6 : ∀ j, j < 512 → a6 j = nI (511 - j))
    (H : ∀ b1 b2 b3 b4 b16, ml_T q 5 b1 → b3 0 = vp_nar .boolean (a15 w) → (∀ j, j < 6 → b4 j = ls) → post (nI 5) (nI 506, ls, 0, b1, b2, b3, b4, a5, a6, a7, a8, a9, a10, a11, a12, a13, a14, a15, b16, a17, a18)) :
    wpX_written post (nI 512, ls, st, a1, a2, a3, a4, a5, a6, a7, a8, a9, a10, a11, a12, a13, a14, a15, a16, a17, a18) (-1) (nI w) := by
  have hc := nI_clamp (show w < 2 ^ 31 by omega)
  have hv : vp_in (nI w) 24 := vp_in_nI hw (by decide)
  unfold wpX_written
  dsimp only
  rw [hc, h13]
  refine ⟨hv, nm_e (ml_new (f := 511) (n := 0) (by decide) (by decide) (h6 511 (by decide)) ?_)⟩
  dsimp only
  refine ⟨ml_in0 (by decide), nm_e ⟨pk_in 1 1024 (by decide) (by decide), nm_e ⟨hv, ml_in0 (by decide), nm_e ⟨hv, ml_in0 (by decide), nm_e ?_⟩⟩⟩⟩
  exact ml_w72 (by decide) hq pk_us h6 (fun b1 b4 b16 t1 t4 => H b1 _ _ b4 b16 t1 pk_us t4)
end
end
section
section
variable {fc ls st : Int32} {a1 a2 a3 a4 a5 a6 a7 a8 a9 a10 a11 a12 a13 a14 a15 a16 a17 a18 : Nat → Int32}
theorem ml_leafLoop {post : Int32 → Prop} {q k : Nat} (hq : q < 32) (hk : k < 32) (hT : ml_T q 5 a1) (H : post (if k = q then 0 else -1)) :
    ∀ i, i ≤ 5 → k / 2 ^ i = q / 2 ^ i → wX_leafOf_5 post (nI k) fc ls st a1 a2 a3 a4 a5 a6 a7 a8 a9 a10 a11 a12 a13 a14 a15 a16 a17 a18 (i + 1) (nI i) (nI i + (-1)) := by
  intro i
  induction i with
  | zero =>
    intro _ h
    have e : k = q := by
      rw [Nat.pow_zero, Nat.div_one, Nat.div_one] at h
      exact h
    rw [if_pos e] at H
    exact br_t (by decide) H
  | succ i ih =>
    intro hi h
    have hs := ml_sd2 q i
    have hs' := ml_sd2 k i
    have e3 : 2 * nI (i + 1) + nI (ml_sd k i) = nI (2 * (i + 1) + ml_sd k i) := by
      rw [show 2 * nI (i + 1) = nI (2 * (i + 1)) from pk_mul 2 (i + 1), nI_add]
    obtain ⟨t1, t2⟩ := hT i (by omega)
    rw [pk_m1]
    refine br_f (nI_pos (by omega)) (br_f (nI_pos (by omega)) ?_)
    rw [ml_side k hk i (by omega), e3, nI_clamp (show 2 * (i + 1) + ml_sd k i < 2 ^ 31 by omega)]
    refine ⟨vp_in_nI (by omega) (by decide), ?_⟩
    by_cases e : ml_sd k i = ml_sd q i
    · rw [e, t1]
      exact nm_e (nm_e (ih (by omega) ((ml_up k hk q hq i (by omega) h).mp e)))
    · have hne : ¬ k = q := fun z => e (by rw [z])
      rw [if_neg hne] at H
      rw [show 2 * (i + 1) + ml_sd k i = 2 * (i + 1) + 1 - ml_sd q i by omega, t2]
      refine nm_e (nm_e ?_)
      cases i with
      | zero => exact br_t (by decide) H
      | succ i =>
        rw [pk_m1]
        exact br_f (nI_pos (by omega)) (br_t (by decide) H)
theorem ml_leaf {post : Int32 → Prop} {q k : Nat} (hq : q < 32) (hk : k < 32) (hT : ml_T q 5 a1) (H : post (if k = q then 0 else -1)) : wpX_leafOf post (fc, ls, st, a1, a2, a3, a4, a5, a6, a7, a8, a9, a10, a11, a12, a13, a14, a15, a16, a17, a18) (nI 5) (nI k) := by
  have t := ml_leafLoop (post := post) (fc := fc) (ls := ls) (st := st) (a2 := a2) (a3 := a3) (a4 := a4) (a5 := a5) (a6 := a6) (a7 := a7) (a8 := a8) (a9 := a9) (a10 := a10) (a11 := a11) (a12 := a12) (a13 := a13) (a14 := a14) (a15 := a15) (a16 := a16) (a17 := a17) (a18 := a18) hq hk hT H 5 (by omega) (by rw [Nat.div_eq_of_lt (show k < 2 ^ 5 by omega), Nat.div_eq_of_lt (show q < 2 ^ 5 by omega)])
  unfold wpX_leafOf
  dsimp only
  rw [show nI 5 + (-1) = 4 by decide] at t
  exact ⟨6, t⟩
theorem ml_csLoop {post : Int32 → St2 → Prop} {q : Nat} {s r : Int32} (hq : q < 32) (hT : ml_T q 5 a1) (h4 : ∀ j, j < 6 → a4 j = 1)
    (h5 : ¬ s = 0) (hz : ∀ i, i < 5 → ml_in s q i = 0 → r = 0) (h1 : ¬ ml_in s q 0 = 0 → r = 1)
    (H : ∀ b16 b17 b18, post r (fc, ls, 0, a1, a2, a3, a4, a5, a6, a7, a8, a9, a10, a11, a12, a13, a14, a15, b16, b17, b18)) :
    ∀ i, i ≤ 5 → ∀ b16 b17 b18 : Nat → Int32, b16 0 = nI i → b17 0 = nI (q / 2 ^ i * 2 ^ i) → b18 0 = nI (2 ^ i) → wX_changedSince_16 post 0 s (i + 2) 0 fc ls (nI 1) a1 a2 a3 a4 a5 a6 a7 a8 a9 a10 a11 a12 a13 a14 a15 b16 b17 b18 := by
  intro i
  induction i with
  | zero =>
    intro _ b16 b17 b18 g1 g2 g3
    refine br_f (by decide) (nm_r (e' := nI 0) (by decide) ?_)
    rw [ml_cl0, g1, g2, g3]
    refine ⟨ml_in0 (by decide), nm_e ⟨ml_in0 (by decide), nm_e ⟨ml_in0 (by decide), nm_e (br_f (by decide) ?_)⟩⟩⟩
    unfold wX_changedSince_88
    rw [ml_cl0, h4 0 (by decide)]
    refine ⟨ml_in0 (by decide), br_f (by decide) (br_c (fun z => ?_) (fun z => br_t rfl (nm_r (e' := 1) (by decide) ?_)))⟩
    · rw [hz 0 (by decide) z] at H
      exact br_t (by decide) (H _ _ _)
    · rw [h1 z] at H
      exact br_t (by decide) (H _ _ _)
  | succ i ih =>
    intro hi b16 b17 b18 g1 g2 g3
    have hs := ml_sd2 q i
    have k33 := ml_keyLt q hq i (by omega)
    have k33' := ml_keyLt q hq (i + 1) (by omega)
    have p33 := ml_pwLt i (by omega)
    obtain ⟨t1, t2⟩ := hT i (by omega)
    have e2 : 2 * nI (i + 1) = nI (2 * (i + 1)) := pk_mul 2 (i + 1)
    have body : ∀ z0, ¬ z0 = 0 → wX_changedSince_88 post (wX_changedSince_16 post 0 s (i + 2)) 0 s 0 (nI (i + 1)) (nI (q / 2 ^ (i + 1) * 2 ^ (i + 1))) (nI (2 ^ (i + 1))) z0 fc ls (nI 0) a1 a2 a3 a4 a5 a6 a7 a8 a9 a10 a11 a12 a13 a14 a15 b16 b17 b18 := by
      intro z0 hz0
      unfold wX_changedSince_88
      rw [nI_clamp (show i + 1 < 2 ^ 31 by omega), h4 (i + 1) (by omega), e2, nI_1, nI_clamp (show 2 * (i + 1) < 2 ^ 31 by omega), nI_clamp (show 2 * (i + 1) + 1 < 2 ^ 31 by omega), ml_half i (by omega), nI_add]
      refine ⟨vp_in_nI (by omega) (by decide), br_f (by decide) (br_f hz0 (br_f (ml_pw1 i (by omega)) ⟨vp_in_nI (by omega) (by decide), by decide, ?_⟩))⟩
      by_cases e : ml_sd q i = 0
      · rw [e] at t1 t2
        have t1' : a1 (2 * (i + 1)) = nI i := t1
        have t2' : a1 (2 * (i + 1) + 1) = -1 := t2
        rw [t1']
        refine ml_push (by decide) (by omega) k33' p33 ?_
        dsimp only
        refine ⟨vp_in_nI (by omega) (by decide), by decide, by decide, ?_⟩
        rw [t2']
        refine ml_pushNeg ?_
        dsimp only
        exact ih (by omega) _ _ _ pk_us (by rw [pk_us, ml_key0 q hq i (by omega) e]) pk_us
      · have e' : ml_sd q i = 1 := by omega
        rw [e'] at t1 t2
        have t1' : a1 (2 * (i + 1) + 1) = nI i := t1
        have t2' : a1 (2 * (i + 1)) = -1 := t2
        rw [t2']
        refine ml_pushNeg ?_
        dsimp only
        refine ⟨vp_in_nI (by omega) (by decide), by decide, by decide, ?_⟩
        rw [t1', ml_key1 q hq i (by omega) e']
        refine ml_push (by decide) (by omega) k33 p33 ?_
        dsimp only
        exact ih (by omega) _ _ _ pk_us pk_us pk_us
    refine br_f (by decide) (nm_r (e' := nI 0) (by decide) ?_)
    rw [ml_cl0, g1, g2, g3]
    refine ⟨ml_in0 (by decide), nm_e ⟨ml_in0 (by decide), nm_e ⟨ml_in0 (by decide), nm_e ?_⟩⟩⟩
    by_cases e5 : i + 1 = 5
    · refine br_t ?_ (body s h5)
      rw [e5]
      decide
    · refine br_f (ml_pw32 (i + 1) (by omega)) ?_
      by_cases z : ml_in s q (i + 1) = 0
      · rw [hz (i + 1) (by omega) z] at H
        unfold wX_changedSince_88
        refine ⟨vp_in_nI (by omega) (by decide), br_f ?_ (br_t z ?_)⟩
        · rw [nI_clamp (show i + 1 < 2 ^ 31 by omega), h4 (i + 1) (by omega)]
          decide
        · exact br_t (by decide) (H _ _ _)
      · exact body _ z
theorem ml_cs {post : Int32 → St2 → Prop} {q : Nat} {s r : Int32} (hq : q < 32) (hT : ml_T q 5 a1) (h4 : ∀ j, j < 6 → a4 j = 1)
    (h5 : ¬ s = 0) (hz : ∀ i, i < 5 → ml_in s q i = 0 → r = 0) (h1 : ¬ ml_in s q 0 = 0 → r = 1)
    (H : ∀ b16 b17 b18, post r (fc, ls, 0, a1, a2, a3, a4, a5, a6, a7, a8, a9, a10, a11, a12, a13, a14, a15, b16, b17, b18)) : wpX_changedSince post (fc, ls, st, a1, a2, a3, a4, a5, a6, a7, a8, a9, a10, a11, a12, a13, a14, a15, a16, a17, a18) (nI 5) 0 s := by
  unfold wpX_changedSince
  dsimp only
  refine ml_push (s := 0) (k := 0) (z := 32) (by decide) (by decide) (by decide) (by decide) ?_
  dsimp only
  refine ⟨7, ml_csLoop hq hT h4 h5 hz h1 H 5 (by decide) _ _ _ pk_us ?_ pk_us⟩
  rw [pk_us, Nat.div_eq_of_lt (show q < 2 ^ 5 by omega)]
end
end
section
section
variable {fc ls st : Int32} {a1 a2 a3 a4 a5 a6 a7 a8 a9 a10 a11 a12 a13 a14 a15 a16 a17 a18 : Nat → Int32}
theorem ml_r1 : ((1 : Int32) - 1 / 6 * 6).toNatClampNeg = 1 := by decide
theorem ml_r1i : vp_in ((1 : Int32) - 1 / 6 * 6) 6 := vp_in_iff.mpr (by decide)
theorem ml_c114 {post : Int32 → St2 → Prop} {q : Nat} (hq : q < 32) (h6 : ∀ j, j < 512 → a6 j = nI (511 - j)) (h7 : a7 1 = -1) (h12 : a12 1 = 1) (h13 : a13 6 = nI q)
    (H : ∀ b1 b2 b3 b4 b16, ml_T q 5 b1 → b3 0 = vp_nar .boolean (a15 6) → (∀ j, j < 6 → b4 j = 1) → post 1 (nI 506, 1, 0, b1, b2, b3, b4, a5, a6, upd a7 1 (nI 5), a8, a9, a10, a11, a12, a13, a14, a15, b16, a17, a18)) :
    ∃ n, wX_commit_114 post (nI 1) n (nI 6) (nI 512) 1 st a1 a2 a3 a4 a5 a6 a7 a8 a9 a10 a11 a12 a13 a14 a15 a16 a17 a18 := by
  have hc := nI_clamp (show 1 < 2 ^ 31 by omega)
  have c1 : ¬ 6 * nI 1 + a12 (nI 1).toNatClampNeg ≤ nI 6 := by
    rw [hc, h12]
    decide
  have c2 : 6 * nI 1 + a12 (nI 1).toNatClampNeg ≤ nI 7 := by
    rw [hc, h12]
    decide
  have e5 : (nI 5).toInt16.toInt32 = nI 5 := by decide
  refine ⟨2, And.intro (vp_in_nI (by decide) (by decide)) (br_f c1 ⟨by decide, by decide, ml_r1i, ?_⟩)⟩
  rw [ml_r1, h7]
  refine ml_written hq (by decide) h13 h6 (fun b1 b2 b3 b4 b16 t1 t3 t4 => ?_)
  dsimp only
  rw [e5]
  exact ⟨ml_r1i, nm_e (nm_r (e' := nI 7) (by decide) (And.intro (vp_in_nI (by decide) (by decide)) (br_t c2 (H b1 b2 b3 b4 b16 t1 t3 t4))))⟩
theorem ml_commit1 {post : Int32 → St2 → Prop} {q : Nat} (hq : q < 32) (ho : ¬ a8 1 = 0) (h6 : ∀ j, j < 512 → a6 j = nI (511 - j)) (h7 : a7 0 = -1) (h12 : a12 1 = 1) (h13 : a13 6 = nI q)
    (H : ∀ b1 b2 b3 b4 b7 b16, ml_T q 5 b1 → b3 0 = vp_nar .boolean (a15 6) → (∀ j, j < 6 → b4 j = 1) → b7 1 = nI 5 → post 1 (nI 506, 1, 0, b1, b2, b3, b4, a5, a6, b7, upd a8 1 0, a9, upd a10 1 (-1), a11, a12, a13, a14, a15, b16, a17, a18)) :
    wpX_commit post (nI 512, 0, st, a1, a2, a3, a4, a5, a6, a7, a8, a9, a10, a11, a12, a13, a14, a15, a16, a17, a18) (nI 1) := by
  have hc := nI_clamp (show 1 < 2 ^ 31 by omega)
  have hv : vp_in (nI 1) 4 := vp_in_nI (by decide) (by decide)
  have r0 : ((0 : Int32) - 0 / 6 * 6).toNatClampNeg = 0 := by decide
  have r0i : vp_in ((0 : Int32) - 0 / 6 * 6) 6 := vp_in_iff.mpr (by decide)
  unfold wpX_commit
  dsimp only
  rw [hc, r0, h7]
  refine ml_check (lo := 0) (hi := 0) (by decide) (by decide) (by decide) ho (br_t rfl ⟨hv, nm_e ⟨by decide, r0i, nm_e ⟨hv, hv, ml_csNeg ?_⟩⟩⟩)
  dsimp only
  refine br_t rfl ⟨hv, nm_e (nm_r (e' := 1) (by decide) ⟨by decide, ml_r1i, ?_⟩)⟩
  rw [ml_r1]
  refine nm_e (br_t (by decide) (nm_r (e' := nI 6) (by decide) (ml_c114 hq h6 ?_ h12 h13 (fun b1 b2 b3 b4 b16 t1 t3 t4 => H b1 b2 b3 b4 _ b16 t1 t3 t4 pk_us))))
  rw [pk_us]
  decide
theorem ml_commit0 {post : Int32 → St2 → Prop} {q : Nat} {s r : Int32} (hq : q < 32) (ho : ¬ a8 0 = 0) (h7 : a7 1 = nI 5) (h9 : a9 0 = 0) (h11 : a11 0 = s) (h12 : a12 0 = 0)
    (hT : ml_T q 5 a1) (h4 : ∀ j, j < 6 → a4 j = 1) (h5 : ¬ s = 0) (hz : ∀ i, i < 5 → ml_in s q i = 0 → r = 0) (h1 : ¬ ml_in s q 0 = 0 → r = 1)
    (H0 : r = 0 → ∀ b16 b17 b18, post 2 (nI 506, nI 2, 0, a1, a2, a3, a4, a5, a6, upd a7 2 (nI 5), upd a8 0 0, a9, upd a10 0 (-1), a11, a12, a13, a14, a15, b16, b17, b18))
    (H1 : ¬ r = 0 → ∀ b16 b17 b18, post (-5) (nI 506, nI 1, 0, a1, a2, a3, a4, a5, a6, a7, upd a8 0 0, a9, upd a10 0 (-1), a11, a12, a13, a14, a15, b16, b17, b18)) :
    wpX_commit post (nI 506, nI 1, st, a1, a2, a3, a4, a5, a6, a7, a8, a9, a10, a11, a12, a13, a14, a15, a16, a17, a18) (nI 0) := by
  have hv : vp_in (nI 0) 4 := vp_in_nI (by decide) (by decide)
  have r1 : (nI 1 - nI 1 / 6 * 6).toNatClampNeg = 1 := by decide
  have r1i : vp_in (nI 1 - nI 1 / 6 * 6) 6 := vp_in_iff.mpr (by decide)
  have r2 : (nI 2 - nI 2 / 6 * 6).toNatClampNeg = 2 := by decide
  have r2i : vp_in (nI 2 - nI 2 / 6 * 6) 6 := vp_in_iff.mpr (by decide)
  have e5 : (nI 5).toInt16.toInt32 = nI 5 := by decide
  have c1 : 6 * nI 0 + a12 (nI 0).toNatClampNeg ≤ nI 0 := by
    rw [ml_cl0, h12]
    decide
  unfold wpX_commit
  dsimp only
  rw [ml_cl0, r1, h7, h9, h11]
  refine ml_check (lo := 0) (hi := 0) (by decide) (by decide) (by decide) ho (br_t rfl ⟨hv, nm_e ⟨by decide, r1i, nm_e ⟨hv, hv, ml_cs hq hT h4 h5 hz h1 (fun b16 b17 b18 => ?_)⟩⟩⟩)
  dsimp only
  refine br_c (fun z => ⟨hv, nm_e (nm_r (e' := nI 2) (by decide) ⟨by decide, r2i, ?_⟩)⟩) (fun z => ⟨hv, nm_e (H1 z b16 b17 b18)⟩)
  rw [r2, e5]
  exact nm_e (br_t (by decide) (nm_r (e' := nI 0) (by decide) ⟨1, And.intro hv (br_t c1 (H0 z b16 b17 b18))⟩))
end
end
section
section
variable {fc ls st : Int32} {a1 a2 a3 a4 a5 a6 a7 a8 a9 a10 a11 a12 a13 a14 a15 a16 a17 a18 : Nat → Int32}
theorem ml_kept {post : Int32 → Prop} {t L : Nat} (h : t ≤ L) (hL : L ≤ 2) (H : post 1) : wpX_isKept post (fc, nI L, st, a1, a2, a3, a4, a5, a6, a7, a8, a9, a10, a11, a12, a13, a14, a15, a16, a17, a18) (nI t) := by
  unfold wpX_isKept
  dsimp only
  exact br_f (nI_pos (by omega)) (br_f (nI_nlt h (by omega)) (br_f (ml_keptN L (by omega) t (by omega)) H))
theorem ml_has {post : Int32 → Prop} {q k L : Nat} (hq : q < 32) (hk : k < 32) (h1 : 1 ≤ L) (h2 : L ≤ 2) (h7 : a7 1 = nI 5) (hT : ml_T q 5 a1)
    (H : post (if k = q then (if a3 0 = 0 then 0 else 1) else 0)) : wpX_has post (fc, nI L, st, a1, a2, a3, a4, a5, a6, a7, a8, a9, a10, a11, a12, a13, a14, a15, a16, a17, a18) (nI 1) (nI k) := by
  unfold wpX_has
  dsimp only
  rw [ml_rem6 1 (by decide), nI_clamp (show 1 < 2 ^ 31 by decide), h7]
  refine ml_kept h1 h2 (br_f (by decide) (br_f (nI_pos (by omega)) (br_t (nI_le (b := 31) (by omega) (by decide)) ⟨by decide, vp_in_nI (by decide) (by decide), ml_leaf hq hk hT ?_⟩)))
  by_cases e : k = q
  · rw [if_pos e] at H ⊢
    refine br_f (by decide) ⟨ml_in0 (by decide), ?_⟩
    rw [sb_cl0]
    refine br_c (fun z => ?_) (fun z => ?_)
    · rw [if_pos z] at H
      exact H
    · rw [if_neg z] at H
      exact H
  · rw [if_neg e] at H ⊢
    exact br_t (by decide) H
theorem ml_changed {post : Int32 → St2 → Prop} {q L : Nat} (hq : q < 32) (h1 : 1 ≤ L) (h2 : L ≤ 2) (h7 : a7 L = nI 5) (hT : ml_T q 5 a1) (h4 : ∀ j, j < 6 → a4 j = 1)
    (H : ∀ b16 b17 b18, post 1 (fc, nI L, 0, a1, a2, a3, a4, a5, a6, a7, a8, a9, a10, a11, a12, a13, a14, a15, b16, b17, b18)) : wpX_changed post (fc, nI L, st, a1, a2, a3, a4, a5, a6, a7, a8, a9, a10, a11, a12, a13, a14, a15, a16, a17, a18) (nI 0) (nI L) := by
  unfold wpX_changed
  dsimp only
  rw [ml_rem6 L (by omega), nI_clamp (show L < 2 ^ 31 by omega), h7]
  refine br_f (by decide) (br_f (nI_pos (by omega)) (br_f (nI_pos (by omega)) (br_f (nI_nlt (Nat.le_refl L) (by omega)) (br_t (nI_lt (by omega) (by omega)) (ml_kept (by omega) h2 (br_f (by decide) ⟨by decide, vp_in_nI (by omega) (by decide), ?_⟩))))))
  exact ml_cs (r := 1) hq hT h4 (by decide) (fun i hi z => absurd z (ml_inAll q hq i hi)) (fun _ => rfl) (fun b16 b17 b18 => H b16 b17 b18)
theorem ml_size {post : Int32 → Prop} {q L : Nat} (hq : q < 32) (h1 : 1 ≤ L) (h2 : L ≤ 2) (h7 : a7 1 = nI 5) (hT : ml_T q 5 a1)
    (H : post (if a3 0 = 0 then 0 else 1)) : wpX_size post (fc, nI L, st, a1, a2, a3, a4, a5, a6, a7, a8, a9, a10, a11, a12, a13, a14, a15, a16, a17, a18) (nI 1) := by
  unfold wpX_size
  dsimp only
  refine br_f (by decide) (br_t (nI_le h1 (by omega)) (ml_kept h1 h2 (br_f (by decide) ?_)))
  refine pk_loop (σ := Unit) (fun n i _ => wX_size_29 post (nI 1) fc (nI L) st a1 a2 a3 a4 a5 a6 a7 a8 a9 a10 a11 a12 a13 a14 a15 a16 a17 a18 n (if q < i then (if a3 0 = 0 then 0 else 1) else 0) (nI i)) (fun _ _ => True) 32 0 () (by omega) trivial ?_ ?_
  · intro n _ _
    rw [if_pos hq]
    exact br_t (by decide) H
  · intro n i _ hi _ hw
    have hw' := hw () trivial
    refine br_f (nI_ge (b := 32) hi (by decide)) (ml_has hq hi h1 h2 h7 hT ?_)
    by_cases e : i = q
    · rw [if_pos e, if_neg (show ¬ q < i by omega)]
      rw [if_pos (show q < i + 1 by omega)] at hw'
      by_cases z : a3 0 = 0
      · rw [if_pos z] at hw' ⊢
        exact br_t rfl (nm_r (nI_1 i) hw')
      · rw [if_neg z] at hw' ⊢
        exact br_f (by decide) (nm_r (e' := 1) (by decide) (nm_r (nI_1 i) hw'))
    · rw [if_neg e]
      by_cases g : q < i
      · rw [if_pos (show q < i + 1 by omega)] at hw'
        rw [if_pos g]
        exact br_t rfl (nm_r (nI_1 i) hw')
      · rw [if_neg (show ¬ q < i + 1 by omega)] at hw'
        rw [if_neg g]
        exact br_t rfl (nm_r (nI_1 i) hw')
end
end
section
section
variable {fc ls st : Int32} {a1 a2 a3 a4 a5 a6 a7 a8 a9 a10 a11 a12 a13 a14 a15 a16 a17 a18 : Nat → Int32} {mc ms kc ks : Nat}
theorem ml_218 {x6 : Int32} {q L : Nat} (hq : q < 32) (h1 : 1 ≤ L) (h2 : L ≤ 2) (h7 : a7 1 = nI 5) (h7' : a7 L = nI 5) (hT : ml_T q 5 a1) (h4 : ∀ j, j < 6 → a4 j = 1)
    (hx : (x6 = 0 ∧ ¬ a3 0 = 0) ∨ (¬ x6 = 0 ∧ a3 0 = 0)) : wL_lawOf_218 (fun r _ => r = 1) mc ms x6 (nI L) 0 kc ks fc (nI L) st a1 a2 a3 a4 a5 a6 a7 a8 a9 a10 a11 a12 a13 a14 a15 a16 a17 a18 := by
  unfold wL_lawOf_218
  refine ml_changed hq h1 h2 h7' hT h4 (fun b16 b17 b18 => ?_)
  dsimp only
  refine br_t rfl (ml_size hq h1 h2 h7 hT ?_)
  unfold wL_lawOf_241
  rcases hx with ⟨e, g⟩ | ⟨e, g⟩
  · rw [if_neg g]
    exact br_t e (br_t rfl rfl)
  · rw [if_pos g]
    exact br_f e (br_t rfl rfl)
theorem ml_157 {x6 z c : Int32} {q L : Nat} (hq : q < 32) (hL : (L = 2 ∧ z = 0) ∨ (L = 1 ∧ ¬ z = 0)) (h7 : a7 1 = nI 5) (h7' : a7 L = nI 5) (hT : ml_T q 5 a1) (h4 : ∀ j, j < 6 → a4 j = 1)
    (hx : (x6 = 0 ∧ ¬ a3 0 = 0) ∨ (¬ x6 = 0 ∧ a3 0 = 0)) : wL_lawOf_157 (fun r _ => r = 1) mc ms (nI q) x6 z c c kc ks fc (nI L) st a1 a2 a3 a4 a5 a6 a7 a8 a9 a10 a11 a12 a13 a14 a15 a16 a17 a18 := by
  have h1 : 1 ≤ L := by omega
  have h2 : L ≤ 2 := by omega
  have k200 : ∀ d, wL_lawOf_200 (fun r _ => r = 1) mc ms x6 z d d kc ks fc (nI L) st a1 a2 a3 a4 a5 a6 a7 a8 a9 a10 a11 a12 a13 a14 a15 a16 a17 a18 := by
    intro d
    unfold wL_lawOf_200
    refine br_t rfl ?_
    rcases hL with ⟨e, g⟩ | ⟨e, g⟩
    · subst e
      exact br_t g (ml_218 hq h1 h2 h7 h7' hT h4 hx)
    · subst e
      exact br_f g (ml_218 hq h1 h2 h7 h7' hT h4 hx)
  have k177 : wL_lawOf_177 (fun r _ => r = 1) mc ms (nI q) x6 z (nI L) (nI L) kc ks fc (nI L) st a1 a2 a3 a4 a5 a6 a7 a8 a9 a10 a11 a12 a13 a14 a15 a16 a17 a18 := by
    unfold wL_lawOf_177
    refine br_t rfl (ml_has hq hq h1 h2 h7 hT ?_)
    rw [if_pos rfl]
    rcases hx with ⟨e, g⟩ | ⟨e, g⟩
    · rw [if_neg g]
      exact br_t e (k200 1)
    · rw [if_pos g]
      exact br_f e (k200 0)
  unfold wL_lawOf_157
  refine br_t rfl ?_
  unfold wpX_latest
  dsimp only
  rcases hL with ⟨e, g⟩ | ⟨e, g⟩
  · subst e
    exact br_t g k177
  · subst e
    exact br_f g k177
theorem ml_109 {x6 z : Int32} {p q : Nat} (hp : p < 32) (hq : q < 32) (hz : (p = q ∧ z = 1) ∨ (p ≠ q ∧ z = 0)) (ho0 : ¬ a8 0 = 0) (ho1 : ¬ a8 1 = 0) (h6 : ∀ j, j < 512 → a6 j = nI (511 - j)) (h7 : a7 0 = -1)
    (h9 : a9 0 = 0) (h10 : a10 0 = -1) (h11 : a11 0 = (1 : Int32) <<< (nI p &&& 31)) (h12 : a12 0 = 0) (h12' : a12 1 = 1) (h13 : a13 6 = nI q)
    (hx : (x6 = 0 ∧ ¬ vp_nar .boolean (a15 6) = 0) ∨ (¬ x6 = 0 ∧ vp_nar .boolean (a15 6) = 0)) : wL_lawOf_109 (fun r _ => r = 1) mc ms (nI q) x6 z 1 kc ks (nI 512) 0 st a1 a2 a3 a4 a5 a6 a7 a8 a9 a10 a11 a12 a13 a14 a15 a16 a17 a18 := by
  unfold wL_lawOf_109
  refine br_t rfl (ml_commit1 hq ho1 h6 h7 h12' h13 (fun b1 b2 b3 b4 b7 b16 t1 t3 t4 t7 => ?_))
  dsimp only
  rw [← t3] at hx
  have o0 : ¬ upd a8 1 0 0 = 0 := by
    rw [pk_un (by decide)]
    exact ho0
  have o10 : upd a10 1 (-1) 0 = -1 := by
    rw [pk_un (by decide)]
    exact h10
  refine br_t rfl (ml_peek (t := 0) (by decide) hq o0 h12 o10 (br_t rfl ?_))
  refine ml_commit0 (r := if p = q then 1 else 0) hq o0 t7 h9 h11 h12 t1 t4 (ml_bitNe p hp) (fun i hi e => if_neg (ml_inBit p hp q hq i hi e)) (fun e => if_pos (ml_inBit0 p hp q hq e)) (fun e b16 b17 b18 => ?_) (fun e b16 b17 b18 => ?_)
  · dsimp only
    rcases hz with ⟨g, g'⟩ | ⟨g, g'⟩
    · rw [if_pos g] at e
      exact absurd e (by decide)
    · exact br_t g' (ml_157 hq (Or.inl ⟨rfl, g'⟩) (by rw [pk_un (by decide)]; exact t7) pk_us t1 t4 hx)
  · dsimp only
    rcases hz with ⟨g, g'⟩ | ⟨g, g'⟩
    · have n0 : ¬ z = 0 := by
        rw [g']
        decide
      exact br_f n0 (ml_157 hq (Or.inr ⟨rfl, n0⟩) t7 t7 t1 t4 hx)
    · rw [if_neg g] at e
      exact absurd rfl e
theorem ml_38 {v x6 z : Int32} {p q : Nat} (hp : p < 32) (hq : q < 32) (hz : (p = q ∧ z = 1) ∨ (p ≠ q ∧ z = 0)) : wL_lawOf_38 (fun r _ => r = 1) 1108 17712 v (nI p) (nI q) x6 z 0 0 := by
  unfold wL_lawOf_38
  refine ⟨by decide, by decide, 18, 3730, by decide, by decide, ml_init (fun b6 b7 b10 t6 t7 t10 => ?_)⟩
  dsimp only
  refine ml_begin (t := 0) (by decide) rfl (t7 0 (by decide)) ?_
  dsimp only
  refine br_t rfl (ml_read (t := 0) (by decide) hp (by decide) rfl rfl rfl ?_)
  dsimp only
  refine br_t rfl (ml_begin (t := 1) (by decide) rfl (t7 0 (by decide)) ?_)
  dsimp only
  refine br_t rfl (br_c (fun e => ?_) (fun e => ?_))
  · refine ml_write (t := 1) (by decide) hq (by decide) rfl ?_
    dsimp only
    exact ml_109 hp hq hz (by decide) (by decide) t6 (t7 0 (by decide)) rfl rfl rfl rfl rfl rfl (Or.inl ⟨e, by decide⟩)
  · refine ml_erase (t := 1) (by decide) hq (by decide) rfl ?_
    dsimp only
    exact ml_109 hp hq hz (by decide) (by decide) t6 (t7 0 (by decide)) rfl rfl rfl rfl rfl rfl (Or.inr ⟨e, by decide⟩)
theorem ml_24 {v z : Int32} {p q : Nat} (hp : p < 32) (hq : q < 32) : wL_lawOf_24 (fun r _ => r = 1) 1108 17712 v (nI p) (nI q) z 0 0 := by
  unfold wL_lawOf_24
  exact pk_eq p q (fun e => ml_38 hp hq (Or.inl ⟨e, rfl⟩)) (fun e => ml_38 hp hq (Or.inr ⟨e, rfl⟩))
theorem ml_law (a b v h : Int32) : wpL_lawOf (fun r _ => r = 1) 1108 17712 () a b v h := by
  obtain ⟨p, hp, ep⟩ := pk_andE a (m := 31) 5 (by decide)
  obtain ⟨q, hq, eq⟩ := pk_andE b (m := 31) 5 (by decide)
  unfold wpL_lawOf
  exact nm_r ep (nm_r eq (br_c (fun _ => ml_24 hp hq) (fun _ => ml_24 hp hq)))
theorem ml_cell {post : Int32 → Prop} {L k : Nat} {xs : Nat → Int32} {u : St0} (hL : L ≤ 4) (hk : k < 4) (H : ∀ x, post x) : wpL_cellAt post L xs u (nI k) := by
  unfold wpL_cellAt
  exact pk_le L k (fun _ => H _) (fun z => ⟨vp_in_nI z (by omega), H _⟩)
end
theorem i_vc (xs : Nat → Int32) (L : Nat) (hL : L ≤ 4) : wpL_law (fun r => r = 1) L xs := by
  unfold wpL_law
  exact ml_cell (k := 0) hL (by decide) (fun a => ml_cell (k := 1) hL (by decide) (fun b => ml_cell (k := 2) hL (by decide) (fun v => ml_cell (k := 3) hL (by decide) (fun h => ⟨1108, 17712, by decide, by decide, ml_law a b v h⟩))))
end
