section
/-! plain rows: the drawn set as a natural, its bounds, the bit identities below 256 -/
theorem fq_xor (a b : Nat) : nI a ^^^ nI b = nI (a ^^^ b) := by
  apply Int32.toBitVec_inj.1
  show BitVec.ofNat 32 a ^^^ BitVec.ofNat 32 b = BitVec.ofNat 32 (a ^^^ b)
  apply BitVec.eq_of_getLsbD_eq
  intro i hi
  simp [BitVec.getLsbD_ofNat, BitVec.getLsbD_xor, hi, Nat.testBit_xor]
theorem fq_sh : ∀ k, k < 9 → (1 : Int32) <<< (nI k &&& 31) = nI (2 ^ k) := by decide +kernel
/-- one turn of the drawing: the bit of the remainder -/
theorem fq_bit {N y : Nat} (h1 : 1 ≤ N) (h8 : N ≤ 8) (hy : y < 2 ^ 31) : (1 : Int32) <<< ((nI y - nI y / nI N * nI N) &&& 31) = nI (2 ^ (y % N)) := by
  rw [pk_rem hy (by omega) (by omega)]
  have hm : y % N < N := Nat.mod_lt _ (by omega)
  exact fq_sh _ (by omega)
def fq_size (y : Nat) : Nat := 1 + y / 7 % 3
def fq_s1 (N y : Nat) : Nat := 2 ^ (y % N)
def fq_s2 (N y : Nat) : Nat := fq_s1 N y ^^^ 2 ^ (y / N % N)
def fq_s3 (N y : Nat) : Nat := fq_s2 N y ^^^ 2 ^ (y / N / N % N)
def fq_pick (N y : Nat) : Nat := if fq_size y ≤ 1 then fq_s1 N y else if fq_size y ≤ 2 then fq_s2 N y else fq_s3 N y
/-- the drawn set -/
def fq_T (N y : Nat) : Nat := if fq_pick N y = 0 then 1 else fq_pick N y
theorem fq_pw {N m : Nat} (h1 : 1 ≤ N) : 2 ^ (m % N) < 2 ^ N := Nat.pow_lt_pow_right (by omega) (Nat.mod_lt _ (by omega))
theorem fq_pick_lt {N y : Nat} (h1 : 1 ≤ N) : fq_pick N y < 2 ^ N := by
  have a1 : fq_s1 N y < 2 ^ N := fq_pw h1
  have a2 : fq_s2 N y < 2 ^ N := Nat.xor_lt_two_pow a1 (fq_pw h1)
  have a3 : fq_s3 N y < 2 ^ N := Nat.xor_lt_two_pow a2 (fq_pw h1)
  unfold fq_pick
  split
  · exact a1
  · split
    · exact a2
    · exact a3
theorem fq_T_pos (N y : Nat) : 1 ≤ fq_T N y := by
  unfold fq_T
  split <;> omega
theorem fq_T_lt {N y : Nat} (h1 : 1 ≤ N) : fq_T N y < 2 ^ N := by
  have h := fq_pick_lt (y := y) h1
  unfold fq_T
  split
  · exact Nat.one_lt_two_pow (by omega)
  · exact h
theorem fq_pw8 {N : Nat} (h8 : N ≤ 8) : 2 ^ N ≤ 256 := Nat.pow_le_pow_right (n := 2) (by omega) h8
theorem fq_size_le (y : Nat) : fq_size y ≤ 3 := by unfold fq_size; omega
theorem fq_size_I {y : Nat} (hy : y < 2 ^ 31) : (1 : Int32) + ((nI y / 7) - (nI y / 7) / 3 * 3) = nI (fq_size y) := by
  have e7 : nI y / 7 = nI (y / 7) := pk_div (d := 7) hy (by decide) (by decide)
  have e3 : nI (y / 7) - nI (y / 7) / 3 * 3 = nI (y / 7 % 3) := pk_rem (d := 3) (by omega) (by decide) (by decide)
  rw [e7, e3]
  exact nI_add 1 (y / 7 % 3)
/-! sets below 256 -/
theorem fq_b1 : ∀ t, t < 256 → nI t &&& ((0 : Int32) ^^^ (-1)) = nI t := by decide +kernel
theorem fq_b2 : ∀ t, t < 256 → (0 : Int32) ||| nI t = nI t := by decide +kernel
theorem fq_b3 : ∀ t, t < 256 → nI t &&& (nI t ^^^ (-1)) = 0 := by decide +kernel
theorem fq_b4 : ∀ t, t < 256 → nI t ||| (0 : Int32) = nI t := by decide +kernel
theorem fq_b5 : ∀ t, t < 256 → nI t ^^^ nI t = 0 := by decide +kernel
theorem fq_b6 : ∀ t, t < 256 → (0 : Int32) ^^^ nI t = nI t := by decide +kernel
/-- a set below 256 that holds none of the seven upper bits is 0 or holds the lowest -/
theorem fq_b7a : ∀ t, t < 256 → ((nI t == 0) || !(nI t &&& 128 == 0) || !(nI t &&& 64 == 0) || !(nI t &&& 32 == 0) || !(nI t &&& 16 == 0) || !(nI t &&& 8 == 0) || !(nI t &&& 4 == 0) || !(nI t &&& 2 == 0) || !(nI t &&& 1 == 0)) = true := by decide +kernel
theorem fq_b7 (t : Nat) (h : t < 256) (c7 : nI t &&& 128 = 0) (c6 : nI t &&& 64 = 0) (c5 : nI t &&& 32 = 0) (c4 : nI t &&& 16 = 0) (c3 : nI t &&& 8 = 0) (c2 : nI t &&& 4 = 0) (c1 : nI t &&& 2 = 0) (hz : ¬ nI t = 0) : ¬ nI t &&& 1 = 0 := by
  intro c0
  have g := fq_b7a t h
  rw [c7, c6, c5, c4, c3, c2, c1, c0] at g
  have b : (nI t == 0) = false := beq_eq_false_iff_ne.mpr hz
  rw [b] at g
  exact absurd g (by decide)
theorem fq_lt1 {x : Int32} (h0 : ¬ x < 0) (h1 : x < 1) : x = 0 := by
  obtain ⟨j, hj, rfl⟩ := nI_of h0
  have : j < 1 := (nI_ltI (b := 1) hj (by decide)).mp h1
  rw [show j = 0 by omega, nI_0]
end
section
/-! one lemma a method -/
theorem fq_top {post : Int32 → Prop} {t : Nat} (h1 : 1 ≤ t) (h2 : t < 256) (H : ∀ r, ¬ nI t &&& r = 0 → post r) : wpX_topBit post () (nI t) :=
  ⟨9, br_f (by decide) (br_c (fun c7 => nm_r (e' := 64) (by decide) (br_f (by decide) (br_c (fun c6 => nm_r (e' := 32) (by decide) (br_f (by decide) (br_c (fun c5 => nm_r (e' := 16) (by decide) (br_f (by decide) (br_c (fun c4 => nm_r (e' := 8) (by decide) (br_f (by decide) (br_c (fun c3 => nm_r (e' := 4) (by decide) (br_f (by decide) (br_c (fun c2 => nm_r (e' := 2) (by decide) (br_f (by decide) (br_c (fun c1 => nm_r (e' := 1) (by decide) (br_t (by decide) (H 1 (fq_b7 t h2 c7 c6 c5 c4 c3 c2 c1 (nI_ne0 (by omega) (by omega)))))) (fun c => H _ c)))) (fun c => H _ c)))) (fun c => H _ c)))) (fun c => H _ c)))) (fun c => H _ c)))) (fun c => H _ c)))) (fun c => H _ c))⟩
theorem fq_drawn {post : Int32 → Prop} {N j : Nat} {c r so l lv : Int32} {a1 a2 a3 a4 : Nat → Int32} (h1 : 1 ≤ N) (h8 : N ≤ 8) (hj : j < 10000) (H : post (nI (fq_T N (j * 7919 + 104729)))) : wpX_drawn post (nI N, c, r, so, l, lv, a1, a2, a3, a4) (nI j) := by
  have hx : nI j * 7919 + 104729 = nI (j * 7919 + 104729) := by
    rw [show (7919 : Int32) = nI 7919 from rfl, show (104729 : Int32) = nI 104729 from rfl, pk_mul, nI_add]
  generalize hy : j * 7919 + 104729 = y at H hx
  have yl : y < 2 ^ 31 := by omega
  have Hp : ((nI (fq_pick N y) = 0 → post 1) ∧ (¬ nI (fq_pick N y) = 0 → post (nI (fq_pick N y)))) := by
    have hl := fq_pick_lt (y := y) h1
    have hq := fq_pw8 h8
    unfold fq_T at H
    by_cases e : fq_pick N y = 0
    · rw [if_pos e] at H
      exact br_t (by rw [e, nI_0]) H
    · rw [if_neg e] at H
      exact br_f (nI_ne0 (by omega) (by omega)) H
  have nz : ¬ nI N = 0 := nI_ne0 (by omega) (by omega)
  have y1 : nI y / nI N = nI (y / N) := pk_div yl (by omega) (by omega)
  have l1 : y / N < 2 ^ 31 := Nat.lt_of_le_of_lt (Nat.div_le_self _ _) yl
  have y2 : nI (y / N) / nI N = nI (y / N / N) := pk_div l1 (by omega) (by omega)
  have l2 : y / N / N < 2 ^ 31 := Nat.lt_of_le_of_lt (Nat.div_le_self _ _) l1
  have sl := fq_size_le y
  have x1 : (0 : Int32) ^^^ ((1 : Int32) <<< ((nI y - nI y / nI N * nI N) &&& 31)) = nI (fq_s1 N y) := by
    rw [fq_bit h1 h8 yl, ← nI_0, fq_xor, Nat.zero_xor]; rfl
  have x2 : nI (fq_s1 N y) ^^^ ((1 : Int32) <<< ((nI (y / N) - nI (y / N) / nI N * nI N) &&& 31)) = nI (fq_s2 N y) := by
    rw [fq_bit h1 h8 l1, fq_xor]; rfl
  have x3 : nI (fq_s2 N y) ^^^ ((1 : Int32) <<< ((nI (y / N / N) - nI (y / N / N) / nI N * nI N) &&& 31)) = nI (fq_s3 N y) := by
    rw [fq_bit h1 h8 l2, fq_xor]; rfl
  refine nm_r hx ⟨by decide, by decide, nm_r (fq_size_I yl) (br_f (nI_nle (by omega) (by omega)) ⟨4, ?_⟩)⟩
  refine pk_le (fq_size y) 0 (fun z => absurd z (by unfold fq_size; omega)) (fun _ => ⟨nz, nm_r x1 ⟨nz, nm_r y1 (nm_r (nI_1 0) ?_)⟩⟩)
  refine pk_le (fq_size y) 1 (fun z => ?_) (fun z1 => ⟨nz, nm_r x2 ⟨nz, nm_r y2 (nm_r (nI_1 1) ?_)⟩⟩)
  · unfold fq_pick at Hp
    rw [if_pos z] at Hp
    exact Hp
  refine pk_le (fq_size y) 2 (fun z => ?_) (fun z2 => ⟨nz, nm_r x3 ⟨nz, nm_e (nm_r (nI_1 2) ?_)⟩⟩)
  · unfold fq_pick at Hp
    rw [if_neg (by omega), if_pos z] at Hp
    exact Hp
  refine pk_le (fq_size y) 3 (fun z => ?_) (fun z3 => absurd z3 (by omega))
  unfold fq_pick at Hp
  rw [if_neg (by omega), if_neg (by omega)] at Hp
  exact Hp
section
variable {n c r so l lv : Int32} {a1 a2 a3 a4 : Nat → Int32}
theorem fq_red0 {post : St2 → Prop} {s v : Int32} (H : post (n, c, 0, so, s, v, a1, a2, a3, a4)) : wpX_reduce post (n, c, 0, so, l, lv, a1, a2, a3, a4) s v :=
  ⟨1, br_t (by decide) H⟩
theorem fq_red1 {post : St2 → Prop} {t : Nat} (h1 : 1 ≤ t) (h2 : t < 256) (ha : a3 0 = nI t) (H : post (n, c, 1, so, 0, a4 0, a1, a2, a3, a4)) (hv : (0 : Int32) ^^^ a4 0 = a4 0) : wpX_reduce post (n, c, 1, so, l, lv, a1, a2, a3, a4) (nI t) 0 := by
  refine ⟨2, br_f (by decide) ⟨pk_in 0 8 (by decide), ?_⟩⟩
  rw [sb_cl0, ha]
  refine fq_top h1 h2 (fun r hr => br_f hr ⟨pk_in 0 8 (by decide), nm_r (fq_b5 t h2) ⟨pk_in 0 8 (by decide), nm_r hv (nm_r (e' := 1) (by decide) (br_t (by decide) H))⟩⟩)
theorem fq_enter {post : St2 → Prop} {t : Nat} {v : Int32} (h1 : 1 ≤ t) (h2 : t < 256) (H : post (n, c, 1, so, nI t, v, a1, a2, upd a3 0 (nI t), upd a4 0 v)) : wpX_enter post (n, c, 0, so, l, lv, a1, a2, a3, a4) (nI t) v := by
  unfold wpX_enter
  refine fq_red0 (br_f (nI_ne0 (by omega) (by omega)) (fq_top h1 h2 (fun r _ => ⟨1, br_t (by decide) ⟨pk_in 0 8 (by decide), nm_r (by rw [sb_cl0]) ⟨pk_in 0 8 (by decide), nm_r (by rw [sb_cl0]) (nm_r (e' := 1) (by decide) H)⟩⟩⟩)))
theorem fq_ra0 {post : St2 → Prop} {p : Int32} (H : post (n, 0, 0, 1, l, lv, a1, a2, a3, a4)) : wpX_reduceAll post (n, 0, r, so, l, lv, a1, a2, a3, a4) p :=
  ⟨1, br_t (by decide) H⟩
theorem fq_ra1 {post : St2 → Prop} {p : Int32} {t : Nat} (hp : ¬ 0 = p) (h1 : 1 ≤ t) (h2 : t < 256) (ha : a1 0 = nI t) (H : post (n, 1, 1, 1, nI t, a2 0, a1, a2, upd a3 0 (nI t), upd a4 0 (a2 0))) : wpX_reduceAll post (n, 1, r, so, l, lv, a1, a2, a3, a4) p := by
  refine ⟨2, br_f (by decide) (br_f hp ⟨pk_in 0 16 (by decide), pk_in 0 16 (by decide), ?_⟩)⟩
  rw [sb_cl0, ha]
  exact fq_enter h1 h2 (nm_r (e' := 1) (by decide) (br_t (by decide) H))
theorem fq_raw {post : St2 → Prop} (H : post (n, 1, 0, 1, l, lv, a1, a2, a3, a4)) : wpX_reduceAll post (n, 1, r, so, l, lv, a1, a2, a3, a4) 0 :=
  ⟨2, br_f (by decide) (br_t rfl (nm_r (e' := 1) (by decide) (br_t (by decide) H)))⟩
theorem fq_kn0 {post : Int32 → Prop} (H : post 0) : wpX_knownNow post (n, c, 0, so, l, lv, a1, a2, a3, a4) :=
  ⟨1, br_t (by decide) H⟩
theorem fq_kn1 {post : Int32 → Prop} {t : Nat} (h2 : t < 256) (ha : a3 0 = nI t) (H : nI t &&& (nI t - 1) = 0 → post (nI t)) (H' : ¬ nI t &&& (nI t - 1) = 0 → post 0) : wpX_knownNow post (n, c, 1, 1, l, lv, a1, a2, a3, a4) := by
  refine ⟨2, br_f (by decide) (br_f (by decide) ⟨pk_in 0 8 (by decide), pk_in 0 8 (by decide), ?_⟩)⟩
  rw [sb_cl0, ha]
  exact br_c (fun z => ⟨pk_in 0 8 (by decide), nm_r (fq_b2 t h2) (nm_r (e' := 1) (by decide) (br_t (by decide) (H z)))⟩) (fun z => nm_r (e' := 1) (by decide) (br_t (by decide) (H' z)))
theorem fq_pl0 {post : Int32 → Prop} (hn : ¬ n < 0) (H : post 0) : wpX_peeled post (n, 0, r, so, l, lv, a1, a2, a3, a4) :=
  ⟨1, br_f hn ⟨1, br_t (by decide) (br_t rfl H)⟩⟩
theorem fq_pl1 {post : Int32 → Prop} {t : Nat} (hn : ¬ n < 0) (hn1 : ¬ n < 1) (h1 : 1 ≤ t) (h2 : t < 256) (ha : a1 0 = nI t) (H : nI t &&& (nI t - 1) = 0 → post (nI t)) (H' : ¬ nI t &&& (nI t - 1) = 0 → post 0) : wpX_peeled post (n, 1, r, so, l, lv, a1, a2, a3, a4) := by
  refine ⟨2, br_f hn ⟨2, br_f (by decide) ⟨pk_in 0 16 (by decide), ?_⟩⟩⟩
  rw [sb_cl0, ha]
  refine nm_r (fq_b1 t h2) (br_c (fun z => nm_r (fq_b2 t h2) (nm_r (e' := 1) (by decide) (br_t (by decide) (br_f (fun e => nI_ne0 (n := t) (by omega) (by omega) e.symm) (nm_r (e' := 1) (by decide) ?_))))) (fun z => nm_r (e' := 1) (by decide) (br_t (by decide) (br_t rfl (H' z)))))
  refine br_f hn1 ⟨2, br_f (by decide) ⟨pk_in 0 16 (by decide), ?_⟩⟩
  rw [sb_cl0, ha]
  exact nm_r (fq_b3 t h2) (br_t (by decide) (nm_r (fq_b4 t h2) (nm_r (e' := 1) (by decide) (br_t (by decide) (br_t rfl (H z))))))
theorem fq_isSet {post : Int32 → Prop} {N t : Nat} (h8 : N ≤ 8) (ht : t < 2 ^ N) (H : post 1) : wpX_isSet post (nI N, c, r, so, l, lv, a1, a2, a3, a4) (nI t) := by
  have hq := fq_pw8 h8
  refine br_f (nI_pos (by omega)) (br_f ?_ H)
  rw [fq_sh N (by omega)]
  exact nI_ge ht (by omega)
theorem fq_sum0 {post : Int32 → St2 → Prop} {N t : Nat} (h8 : N ≤ 8) (h1 : 1 ≤ t) (ht : t < 2 ^ N) (H : post (-2) (nI N, 0, 0, 1, nI t, 0, a1, a2, a3, a4)) : wpX_sumOf post (nI N, 0, r, so, l, lv, a1, a2, a3, a4) (nI t) := by
  have hq := fq_pw8 h8
  unfold wpX_sumOf
  refine fq_isSet h8 ht (br_f (by decide) (fq_ra0 ?_))
  unfold wpX_settle
  exact fq_red0 (br_f (by decide) (br_f (nI_ne0 (by omega) (by omega)) (br_f (by decide) H)))
theorem fq_sum1 {post : Int32 → St2 → Prop} {N t w : Nat} (h8 : N ≤ 8) (h1 : 1 ≤ t) (ht : t < 2 ^ N) (ha : a1 0 = nI t) (hw : w < 256) (hb : a2 0 = nI w) (H : post (nI w) (nI N, 1, 1, 1, 0, nI w, a1, a2, upd a3 0 (nI t), upd a4 0 (nI w))) : wpX_sumOf post (nI N, 1, r, so, l, lv, a1, a2, a3, a4) (nI t) := by
  have hq := fq_pw8 h8
  unfold wpX_sumOf
  refine fq_isSet h8 ht (br_f (by decide) (fq_ra1 (t := t) (by decide) h1 (by omega) ha ?_))
  unfold wpX_settle
  refine fq_red1 h1 (by omega) pk_us (br_f (by decide) (br_t rfl ?_)) ?_
  · rw [pk_us, hb]
    exact br_t (nI_pos' (by omega)) H
  · rw [pk_us, hb]
    exact fq_b6 w hw
theorem fq_spare0 {post : Int32 → St2 → Prop} (H : post 0 (n, 0, 0, 1, l, lv, a1, a2, a3, a4)) : wpX_spare post (n, 0, r, so, l, lv, a1, a2, a3, a4) := by
  unfold wpX_spare
  exact fq_ra0 (fq_kn0 ⟨1, br_t (by decide) H⟩)
theorem fq_spare1 {post : Int32 → St2 → Prop} {t : Nat} (h1 : 1 ≤ t) (h2 : t < 256) (ha : a1 0 = nI t)
    (H : nI t &&& (nI t - 1) = 0 → ∀ u3 u4, post 0 (n, 1, 0, 1, nI t, a2 0, a1, a2, u3, u4)) (H' : ¬ nI t &&& (nI t - 1) = 0 → ∀ u3 u4, post 1 (n, 1, 0, 1, nI t, a2 0, a1, a2, u3, u4)) : wpX_spare post (n, 1, r, so, l, lv, a1, a2, a3, a4) := by
  unfold wpX_spare
  refine fq_ra1 (t := t) (by decide) h1 h2 ha (fq_kn1 h2 pk_us (fun z => ⟨2, br_f (by decide) (fq_raw (fq_kn0 ?_))⟩) (fun z => ⟨2, br_f (by decide) (fq_raw (fq_kn0 ?_))⟩))
  · rw [fq_b1 t h2]
    exact br_f (nI_ne0 (by omega) (by omega)) (nm_r (e' := 0) (by decide) (nm_r (e' := 1) (by decide) (br_t (by decide) (H z _ _))))
  · exact br_t (by decide) (nm_r (e' := 1) (by decide) (nm_r (e' := 1) (by decide) (br_t (by decide) (H' z _ _))))
theorem fq_lose0 {post : Int32 → St2 → Prop} {p : Int32} (H : post (-1) (n, 0, r, so, l, lv, a1, a2, a3, a4)) : wpX_lose post (n, 0, r, so, l, lv, a1, a2, a3, a4) p :=
  br_c (fun _ => H) (fun z => br_f z H)
theorem fq_lose1 {post : Int32 → St2 → Prop} {p : Int32} (H : p = 0 → post 0 (n, 0, r, so, l, lv, a1, a2, a3, a4)) (H' : ¬ p = 0 → post (-1) (n, 1, r, so, l, lv, a1, a2, a3, a4)) : wpX_lose post (n, 1, r, so, l, lv, a1, a2, a3, a4) p := by
  by_cases e : p = 0
  · subst e
    exact br_f (by decide) (br_t (by decide) (nm_r (e' := 1) (by decide) ⟨1, br_t (by decide) (nm_r (e' := 0) (by decide) (H rfl))⟩))
  · exact br_c (fun _ => H' e) (fun z => br_c (fun z1 => absurd (fq_lt1 z z1) e) (fun _ => H' e))
theorem fq_known0 {post : Int32 → St2 → Prop} (H : post 0 (n, 0, 0, 1, l, lv, a1, a2, a3, a4)) : wpX_known post (n, 0, r, so, l, lv, a1, a2, a3, a4) := by
  unfold wpX_known
  exact fq_ra0 (fq_kn0 H)
theorem fq_known1 {post : Int32 → St2 → Prop} {t : Nat} (h1 : 1 ≤ t) (h2 : t < 256) (ha : a1 0 = nI t) (H : nI t &&& (nI t - 1) = 0 → post (nI t) (n, 1, 1, 1, nI t, a2 0, a1, a2, upd a3 0 (nI t), upd a4 0 (a2 0))) (H' : ¬ nI t &&& (nI t - 1) = 0 → post 0 (n, 1, 1, 1, nI t, a2 0, a1, a2, upd a3 0 (nI t), upd a4 0 (a2 0))) : wpX_known post (n, 1, r, so, l, lv, a1, a2, a3, a4) := by
  unfold wpX_known
  exact fq_ra1 (t := t) (by decide) h1 h2 ha (fq_kn1 h2 pk_us H H')
theorem fq_rank0 {post : Int32 → St2 → Prop} (H : post 0 (n, 0, 0, 1, l, lv, a1, a2, a3, a4)) : wpX_rank post (n, 0, r, so, l, lv, a1, a2, a3, a4) := by
  unfold wpX_rank
  exact fq_ra0 H
theorem fq_rank1 {post : Int32 → St2 → Prop} {t : Nat} (h1 : 1 ≤ t) (h2 : t < 256) (ha : a1 0 = nI t) (H : post 1 (n, 1, 1, 1, nI t, a2 0, a1, a2, upd a3 0 (nI t), upd a4 0 (a2 0))) : wpX_rank post (n, 1, r, so, l, lv, a1, a2, a3, a4) := by
  unfold wpX_rank
  exact fq_ra1 (t := t) (by decide) h1 h2 ha H
end
end
section
/-! the law's own blocks, from its end backwards -/
section
variable {post : Int32 → St0 → Prop} {mc ms kc ks N t : Nat} {x0 x1 x2 x3 x10 z n r so l lv : Int32} {a1 a2 a3 a4 : Nat → Int32}
/-- nothing was taken in: every answer is the empty one -/
theorem fq_out (h8 : N ≤ 8) (ht1 : 1 ≤ t) (ht : t < 2 ^ N) (H : post 1 ()) : wL_lawOf_241 post mc ms x2 x3 0 (nI t) x10 z z kc ks (nI N) 0 r so l lv a1 a2 a3 a4 := by
  refine br_t rfl (fq_known0 (fq_pl0 (nI_pos (by omega)) (br_t rfl (br_t rfl (br_t rfl (fq_sum0 h8 ht1 ht (br_t rfl (br_t rfl ?_))))))))
  refine fq_rank0 (fq_spare0 (br_t rfl (br_t rfl (br_t rfl (br_t rfl (fq_lose0 (br_t rfl (br_t rfl (br_t rfl (br_t rfl H))))))))))
/-- one symbol is held: losing it, and the count behind it -/
theorem fq_end (H : post 1 ()) : wL_lawOf_367 post mc ms x3 1 z z kc ks n 1 r so l lv a1 a2 a3 a4 :=
  br_t rfl (fq_lose1 (fun e => br_f (by decide) (br_t e (br_t rfl (br_f (by decide) (br_t e (br_t rfl H)))))) (fun e => br_f (by decide) (br_f e (br_t rfl (br_f (by decide) (br_f e (br_t rfl H)))))))
/-- one symbol is held, of one block -/
theorem fq_in1 {w : Nat} (h1 : 1 ≤ N) (h8 : N ≤ 8) (ht1 : 1 ≤ t) (ht : t < 2 ^ N) (ha : a1 0 = nI t) (hw : w < 256) (hb : a2 0 = nI w) (hz : nI t &&& (nI t - 1) = 0) (H : post 1 ()) : wL_lawOf_241 post mc ms (nI w) x3 1 (nI t) 1 (nI t) (nI t) kc ks (nI N) 1 r so l lv a1 a2 a3 a4 := by
  have hq := fq_pw8 h8
  have h2 : t < 256 := by omega
  refine br_t rfl (fq_known1 ht1 h2 ha (fun _ => fq_pl1 (nI_pos (by omega)) (nI_nlt (b := 1) h1 (by omega)) ht1 h2 ha (fun _ => ?_) (fun z => absurd hz z)) (fun z => absurd hz z))
  refine br_f (by decide) (br_f (by decide) (br_t rfl (br_t rfl (fq_sum1 h8 ht1 ht ha hw hb (br_f (by decide) (br_t rfl ?_))))))
  refine fq_rank1 ht1 h2 ha (fq_spare1 ht1 h2 ha (fun _ u3 u4 => ?_) (fun z => absurd hz z))
  exact br_f (by decide) (br_t rfl (br_f (by decide) (br_f (by decide) (fq_end H))))
/-- one symbol is held, of more blocks -/
theorem fq_in0 {w : Nat} (h1 : 1 ≤ N) (h8 : N ≤ 8) (ht1 : 1 ≤ t) (ht : t < 2 ^ N) (ha : a1 0 = nI t) (hw : w < 256) (hb : a2 0 = nI w) (hz : ¬ nI t &&& (nI t - 1) = 0) (H : post 1 ()) : wL_lawOf_241 post mc ms (nI w) x3 1 (nI t) 0 (nI t) (nI t) kc ks (nI N) 1 r so l lv a1 a2 a3 a4 := by
  have hq := fq_pw8 h8
  have h2 : t < 256 := by omega
  refine br_t rfl (fq_known1 ht1 h2 ha (fun z => absurd z hz) (fun _ => fq_pl1 (nI_pos (by omega)) (nI_nlt (b := 1) h1 (by omega)) ht1 h2 ha (fun z => absurd z hz) (fun _ => ?_)))
  refine br_f (by decide) (br_t rfl (br_t rfl (br_t rfl (fq_sum1 h8 ht1 ht ha hw hb (br_f (by decide) (br_t rfl ?_))))))
  refine fq_rank1 ht1 h2 ha (fq_spare1 ht1 h2 ha (fun z => absurd z hz) (fun _ u3 u4 => ?_))
  exact br_f (by decide) (br_t rfl (br_f (by decide) (br_t rfl (fq_end H))))
end
/-! the first calls of the law: a number that isn't good, a value that isn't, both good -/
def fq_bad (x : Int32) : Prop := x < 0 ∨ 9999 < x
theorem fq_bad_ge {x : Int32} (h0 : ¬ x < 0) (h : fq_bad x) : 10000 ≤ x := by
  rcases h with h | h
  · exact absurd h h0
  · obtain ⟨j, hj, rfl⟩ := nI_of h0
    have : 9999 < j := (nI_ltI (a := 9999) (by decide) hj).mp h
    exact nI_le (a := 10000) (by omega) hj
theorem fq_setA {post : Int32 → Prop} {u : St2} {x : Int32} (h : fq_bad x) (H : post (-1)) : wpX_setOf post u x :=
  br_c (fun _ => H) (fun z => br_t (fq_bad_ge z h) H)
theorem fq_setB {post : Int32 → Prop} {N j : Nat} {c r so l lv : Int32} {a1 a2 a3 a4 : Nat → Int32} (h1 : 1 ≤ N) (h8 : N ≤ 8) (hj : j < 10000) (H : post (nI (fq_T N (j * 7919 + 104729)))) : wpX_setOf post (nI N, c, r, so, l, lv, a1, a2, a3, a4) (nI j) :=
  br_f (nI_pos (by omega)) (br_f (nI_ge (b := 10000) hj (by decide)) (fq_drawn h1 h8 hj H))
theorem fq_drawA {post : Int32 → St2 → Prop} {n c r so l lv : Int32} {a1 a2 a3 a4 : Nat → Int32} {x y : Int32} (h : fq_bad x) (H : post (-1) (n, c, r, so, l, lv, a1, a2, a3, a4)) : wpX_draw post (n, c, r, so, l, lv, a1, a2, a3, a4) x y :=
  br_c (fun _ => H) (fun z => br_f (Int32.not_lt.mpr (fq_bad_ge z h)) H)
theorem fq_drawB {post : Int32 → St2 → Prop} {n c r so l lv : Int32} {a1 a2 a3 a4 : Nat → Int32} {j : Nat} {y : Int32} (hj : j < 10000) (h : y < 0 ∨ 255 < y) (H : post (-2) (n, c, r, so, l, lv, a1, a2, a3, a4)) : wpX_draw post (n, c, r, so, l, lv, a1, a2, a3, a4) (nI j) y :=
  br_f (nI_pos (by omega)) (br_t (nI_lt (b := 10000) hj (by decide)) (br_c (fun _ => H) (fun z => br_f (Int32.not_le.mpr (h.resolve_left z)) H)))
theorem fq_drawC {post : Int32 → St2 → Prop} {N j w : Nat} {r so l lv : Int32} {a1 a2 a3 a4 : Nat → Int32} (h1 : 1 ≤ N) (h8 : N ≤ 8) (hj : j < 10000) (hw : w < 256) (H : post (nI (fq_T N (j * 7919 + 104729))) (nI N, 1, r, so, l, lv, upd a1 0 (nI (fq_T N (j * 7919 + 104729))), upd a2 0 (nI w), a3, a4)) : wpX_draw post (nI N, 0, r, so, l, lv, a1, a2, a3, a4) (nI j) (nI w) := by
  refine br_f (nI_pos (by omega)) (br_t (nI_lt (b := 10000) hj (by decide)) (br_f (nI_pos (by omega)) (br_t (nI_le (b := 255) (by omega) (by decide)) (br_f (by decide) (fq_drawn h1 h8 hj ?_)))))
  exact ⟨pk_in 0 16 (by decide), nm_r (by rw [sb_cl0]) ⟨pk_in 0 16 (by decide), nm_r (by rw [sb_cl0]) (nm_r (e' := 1) (by decide) H)⟩⟩
section
variable {post : Int32 → St0 → Prop} {N t : Nat} {x0 x1 x2 x3 z : Int32}
/-- the object is made with N blocks -/
def fq_mk (x0 : Int32) (N : Nat) : Prop := ∀ post : St2 → Prop, post (nI N, 0, 0, 0, 0, 0, (fun _ => 0), (fun _ => 0), (fun _ => 0), (fun _ => 0)) → wpX_init post 4 48 (0, 0, 0, 0, 0, 0) x0
theorem fq_171A (hi : fq_mk x0 N) (h8 : N ≤ 8) (ht1 : 1 ≤ t) (ht : t < 2 ^ N) (hx : fq_bad x1) (H : post 1 ()) : wL_lawOf_171 post 40 624 x0 x1 x2 x3 0 0 (nI t) z 0 0 :=
  ⟨by decide, by decide, 4, 48, by decide, by decide, hi _ (fq_setA hx (br_t rfl (br_t rfl (fq_drawA hx (br_t rfl (fq_out h8 ht1 ht H))))))⟩
theorem fq_171B {j : Nat} (hi : fq_mk x0 N) (h1 : 1 ≤ N) (h8 : N ≤ 8) (hj : j < 10000) (hy : x2 < 0 ∨ 255 < x2) (H : post 1 ()) : wL_lawOf_171 post 40 624 x0 (nI j) x2 x3 1 0 (nI (fq_T N (j * 7919 + 104729))) z 0 0 :=
  ⟨by decide, by decide, 4, 48, by decide, by decide, hi _ (fq_setB h1 h8 hj (br_f (by decide) (br_t rfl (fq_drawB hj hy (br_f (by decide) (br_t rfl (fq_out h8 (fq_T_pos _ _) (fq_T_lt h1) H)))))))⟩
theorem fq_171C {j w : Nat} (hi : fq_mk x0 N) (h1 : 1 ≤ N) (h8 : N ≤ 8) (hj : j < 10000) (hw : w < 256) (H : post 1 ()) : wL_lawOf_156 post 40 624 x0 (nI j) (nI w) x3 1 1 (nI (fq_T N (j * 7919 + 104729))) 0 0 :=
  br_c (fun z => ⟨by decide, by decide, 4, 48, by decide, by decide, hi _ (fq_setB h1 h8 hj (br_f (by decide) (br_t rfl (fq_drawC h1 h8 hj hw (br_f (by decide) (br_f (by decide) (fq_in1 h1 h8 (fq_T_pos _ _) (fq_T_lt h1) pk_us hw pk_us z H)))))))⟩)
    (fun z => ⟨by decide, by decide, 4, 48, by decide, by decide, hi _ (fq_setB h1 h8 hj (br_f (by decide) (br_t rfl (fq_drawC h1 h8 hj hw (br_f (by decide) (br_f (by decide) (fq_in0 h1 h8 (fq_T_pos _ _) (fq_T_lt h1) pk_us hw pk_us z H)))))))⟩)
end
/-- the law's own drawing gives the same set -/
theorem fq_81 {post : Int32 → St0 → Prop} {mc ms kc ks N y : Nat} {x0 x1 x2 x3 x5 x6 : Int32} (h1 : 1 ≤ N) (h8 : N ≤ 8) (yl : y < 2 ^ 31) (H : wL_lawOf_156 post mc ms x0 x1 x2 x3 x5 x6 (nI (fq_T N y)) kc ks) : wL_lawOf_81 post mc ms x0 x1 x2 x3 (nI N) x5 x6 (nI y) kc ks := by
  have Hp : wL_lawOf_148 post mc ms x0 x1 x2 x3 x5 x6 (nI (fq_pick N y)) kc ks := by
    have hl := fq_pick_lt (y := y) h1
    have hq := fq_pw8 h8
    unfold fq_T at H
    by_cases e : fq_pick N y = 0
    · rw [if_pos e] at H
      exact br_t (by rw [e, nI_0]) H
    · rw [if_neg e] at H
      exact br_f (nI_ne0 (by omega) (by omega)) H
  have nz : ¬ nI N = 0 := nI_ne0 (by omega) (by omega)
  have nn : N * N ≤ 64 := Nat.mul_le_mul h8 h8
  have np : 0 < N * N := Nat.mul_pos h1 h1
  have nz2 : ¬ nI N * nI N = 0 := by
    rw [pk_mul]
    exact nI_ne0 np (by omega)
  have y1 : nI y / nI N = nI (y / N) := pk_div yl (by omega) (by omega)
  have l1 : y / N < 2 ^ 31 := Nat.lt_of_le_of_lt (Nat.div_le_self _ _) yl
  have y2 : nI y / (nI N * nI N) = nI (y / N / N) := by
    rw [pk_mul, pk_div yl np (by omega), Nat.div_div_eq_div_mul]
  have l2 : y / N / N < 2 ^ 31 := Nat.lt_of_le_of_lt (Nat.div_le_self _ _) l1
  have sl := fq_size_le y
  have x2' : nI (fq_s1 N y) ^^^ ((1 : Int32) <<< (((nI y / nI N) - (nI y / nI N) / nI N * nI N) &&& 31)) = nI (fq_s2 N y) := by
    rw [y1, fq_bit h1 h8 l1, fq_xor]; rfl
  have x3' : nI (fq_s2 N y) ^^^ ((1 : Int32) <<< (((nI y / (nI N * nI N)) - (nI y / (nI N * nI N)) / nI N * nI N) &&& 31)) = nI (fq_s3 N y) := by
    rw [y2, fq_bit h1 h8 l2, fq_xor]; rfl
  refine ⟨by decide, by decide, nm_r (fq_size_I yl) ⟨nz, nm_r (e' := nI (fq_s1 N y)) (fq_bit h1 h8 yl) ?_⟩⟩
  refine pk_le (fq_size y) 1 (fun z => ?_) (fun z1 => ⟨nz, nz, nm_r x2' ?_⟩)
  · refine pk_le (fq_size y) 2 (fun _ => ?_) (fun z2 => absurd z2 (by omega))
    unfold fq_pick at Hp
    rw [if_pos z] at Hp
    exact Hp
  · refine pk_le (fq_size y) 2 (fun z2 => ?_) (fun z2 => ⟨nz2, nz, nm_r x3' ?_⟩)
    · unfold fq_pick at Hp
      rw [if_neg (by omega), if_pos z2] at Hp
      exact Hp
    · unfold fq_pick at Hp
      rw [if_neg (by omega), if_neg (by omega)] at Hp
      exact Hp
theorem fq_21 {post : Int32 → St0 → Prop} {N : Nat} {x0 x1 x2 x3 : Int32} (hi : fq_mk x0 N) (h1 : 1 ≤ N) (h8 : N ≤ 8) (H : post 1 ()) : wL_lawOf_21 post 40 624 x0 x1 x2 x3 (nI N) 0 0 := by
  have A : fq_bad x1 → wL_lawOf_38 post 40 624 x0 x1 x2 x3 (nI N) 0 0 := by
    intro hx
    exact br_t rfl (br_t rfl (fq_81 (y := 0) h1 h8 (by decide) (br_c (fun _ => fq_171A hi h8 (fq_T_pos _ _) (fq_T_lt h1) hx H) (fun _ => fq_171A hi h8 (fq_T_pos _ _) (fq_T_lt h1) hx H))))
  refine br_c (fun z => A (Or.inl z)) (fun z => br_c (fun z' => A (Or.inr z')) (fun z' => ?_))
  obtain ⟨j, hj, rfl⟩ := nI_of2 (M := 9999) (n := 9999) (by decide) z (Int32.not_lt.mp z')
  have hx : nI j * 7919 + 104729 = nI (j * 7919 + 104729) := by
    rw [show (7919 : Int32) = nI 7919 from rfl, show (104729 : Int32) = nI 104729 from rfl, pk_mul, nI_add]
  have B : (x2 < 0 ∨ 255 < x2) → wL_lawOf_61 post 40 624 x0 (nI j) x2 x3 (nI N) 1 0 0 := by
    intro hy
    refine br_f (by decide) ?_
    rw [hx]
    exact fq_81 h1 h8 (by omega) (br_c (fun _ => fq_171B hi h1 h8 (by omega) hy H) (fun _ => fq_171B hi h1 h8 (by omega) hy H))
  refine br_f (by decide) (br_c (fun w => B (Or.inl w)) (fun w => br_c (fun w' => B (Or.inr w')) (fun w' => ?_)))
  obtain ⟨k, hk, rfl⟩ := nI_of2 (M := 255) (n := 255) (by decide) w (Int32.not_lt.mp w')
  refine br_f (by decide) ?_
  rw [hx]
  exact fq_81 h1 h8 (by omega) (fq_171C hi h1 h8 (by omega) (by omega) H)
theorem fq_lawOf {post : Int32 → St0 → Prop} {p0 p1 p2 p3 : Int32} (H : post 1 ()) : wpL_lawOf post 40 624 () p0 p1 p2 p3 := by
  have M : ∀ (z : Int32) (ψ : St2 → Prop), ((1 ≤ p0 → wX_init_47 ψ 4 48 p0 4 48 0 0 0 0 0 0 (fun _ => 0) (fun _ => 0) (fun _ => 0) (fun _ => 0)) ∧ (¬ 1 ≤ p0 → wX_init_47 ψ 4 48 1 4 48 0 0 0 0 0 0 (fun _ => 0) (fun _ => 0) (fun _ => 0) (fun _ => 0))) → wpX_init ψ 4 48 (0, 0, 0, 0, 0, 0) p0 :=
    fun _ _ h => ⟨by decide, by decide, by decide, by decide, by decide, by decide, by decide, by decide, h⟩
  refine br_c (fun z1 => br_c (fun z8 => ?_) (fun z8 => ?_)) (fun z1 => ?_)
  · have z0 : ¬ p0 < 0 := fun z => absurd (Int32.lt_of_lt_of_le (show (0 : Int32) < 1 by decide) z1) (Int32.not_lt.mpr (Int32.le_of_lt z))
    obtain ⟨N, hN, e⟩ := nI_of2 (M := 8) (n := 8) (by decide) z0 z8
    have hN1 : 1 ≤ N := (nI_leI (a := 1) (b := N) (by decide) (by omega)).mp (e ▸ z1)
    have hi : fq_mk p0 N := fun ψ h => M 0 ψ (br_t z1 (br_t z8 (by rw [e]; exact h)))
    have g : wL_lawOf_21 post 40 624 p0 p1 p2 p3 (nI N) 0 0 := fq_21 hi hN1 hN H
    rw [← e] at g
    exact g
  · exact fq_21 (N := 8) (fun ψ h => M 0 ψ (br_t z1 (br_f z8 h))) (by decide) (by decide) H
  · exact fq_21 (N := 1) (fun ψ h => M 0 ψ (br_f z1 (br_t (by decide) h))) (by decide) (by decide) H
theorem fq_cell {post : Int32 → Prop} {L : Nat} {xs : Nat → Int32} {p : Int32} (k : Nat) (hL : L ≤ 4) (hk : k < 4) (hp : p = nI k) (h : ∀ v, post v) : wpL_cellAt post L xs () p :=
  pk_le L k (fun _ => h _) (fun z => ⟨pk_in k L z hp (by omega), h _⟩) rfl hp (by omega) (by omega)
end
section
theorem i_vc (xs : Nat → Int32) (L : Nat) (hL : L ≤ 4) : wpL_law (fun r => r = 1) L xs :=
  fq_cell 0 hL (by decide) rfl (fun _ => fq_cell 1 hL (by decide) rfl (fun _ => fq_cell 2 hL (by decide) rfl (fun _ => fq_cell 3 hL (by decide) rfl (fun _ => ⟨40, 624, by decide, by decide, fq_lawOf rfl⟩))))
end
