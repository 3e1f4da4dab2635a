section
/-! pure rows: the picture. bt, b_or, b_and, nf_sh and the shape of qa_bit began as rows of BITS.to-paste -/
def qa_t (x : Int32) (i : Nat) : Bool := x.toBitVec.getLsbD i
theorem qa_or (x y : Int32) (i : Nat) : qa_t (x ||| y) i = (qa_t x i || qa_t y i) := by unfold qa_t; rw [Int32.toBitVec_or, BitVec.getLsbD_or]
theorem qa_and (x y : Int32) (i : Nat) : qa_t (x &&& y) i = (qa_t x i && qa_t y i) := by unfold qa_t; rw [Int32.toBitVec_and, BitVec.getLsbD_and]
theorem qa_t0 (i : Nat) : qa_t 0 i = false := BitVec.getLsbD_zero
theorem qa_w : ∀ i, i < 16 → qa_t 65535 i = true := by decide +kernel
theorem qa_b1 : ∀ i, i < 16 → ∀ k, k < 16 → qa_t ((1 : Int32) <<< (nI i &&& 31)) k = decide (k = i) := by decide +kernel
theorem qa_sh : ∀ l, l < 16 → ((1 : Int32) <<< (nI l &&& 31)).toBitVec = BitVec.twoPow 32 l := by decide +kernel
theorem qa_tp : ∀ l, l < 16 → BitVec.twoPow 32 l ≠ 0#32 := by decide +kernel
theorem qa_bit (x : Int32) {l : Nat} (hl : l < 16) : (x &&& ((1 : Int32) <<< (nI l &&& 31))) = 0 ↔ qa_t x l = false := by
  unfold qa_t
  rw [← Int32.toBitVec_inj, Int32.toBitVec_and, qa_sh l hl, BitVec.and_twoPow]
  show _ = 0#32 ↔ _
  cases hb : x.toBitVec.getLsbD l
  · exact ⟨fun _ => rfl, fun _ => by simp⟩
  · exact ⟨fun z => absurd ((if_pos rfl).symm.trans z) (qa_tp l hl), fun z => absurd z (by decide)⟩
theorem qa_hit {x y : Int32} (hy : y = 65535) {l : Nat} (hl : l < 16) : ((x &&& y) &&& ((1 : Int32) <<< (nI l &&& 31))) = 0 ↔ qa_t x l = false := by
  rw [qa_bit _ hl, qa_and, hy, qa_w l hl, Bool.and_true]
/-- squares -/
theorem qa_sq {a : Int} (h1 : -1000 ≤ a) (h2 : a ≤ 1000) : 0 ≤ a * a ∧ a * a ≤ 1000000 := by
  have e : ((a.natAbs * a.natAbs : Nat) : Int) = a * a := Int.natAbs_mul_self
  have b : a.natAbs * a.natAbs ≤ 1000 * 1000 := Nat.mul_le_mul (by omega) (by omega)
  generalize a.natAbs * a.natAbs = z at e b
  omega
theorem qa_far {d e : Int} {w : Nat} (h : d < -(w : Int) ∨ (w : Int) < d) : (w : Int) * w < d * d + e * e := by
  have e1 : ((d.natAbs * d.natAbs : Nat) : Int) = d * d := Int.natAbs_mul_self
  have e2 : ((e.natAbs * e.natAbs : Nat) : Int) = e * e := Int.natAbs_mul_self
  have e3 : ((w * w : Nat) : Int) = (w : Int) * w := Int.natCast_mul w w
  have b : w * w < d.natAbs * d.natAbs := Nat.mul_self_lt_mul_self (by omega)
  rw [← e1, ← e2, ← e3]
  generalize d.natAbs * d.natAbs = z1 at b
  generalize e.natAbs * e.natAbs = z2
  generalize w * w = z3 at b
  omega
theorem qa_s32 {x : Int32} (h1 : -1000 ≤ x.toInt) (h2 : x.toInt ≤ 1000) : (x * x).toInt = x.toInt * x.toInt := by
  obtain ⟨p, q⟩ := qa_sq h1 h2
  rw [Int32.toInt_mul]
  generalize x.toInt * x.toInt = z at p q
  exact Int.bmod_eq_of_le_mul_two (by omega) (by omega)
theorem qa_s64 {x : Int64} (h1 : -1000 ≤ x.toInt) (h2 : x.toInt ≤ 1000) : (x * x).toInt = x.toInt * x.toInt := by
  obtain ⟨p, q⟩ := qa_sq h1 h2
  rw [Int64.toInt_mul]
  generalize x.toInt * x.toInt = z at p q
  exact Int.bmod_eq_of_le_mul_two (by omega) (by omega)
theorem qa_lt32 {w x y : Int32} {W X Y : Int} (ew : w.toInt = W) (ex : x.toInt = X) (ey : y.toInt = Y) (w1 : -1000 ≤ W) (w2 : W ≤ 1000) (x1 : -1000 ≤ X) (x2 : X ≤ 1000) (y1 : -1000 ≤ Y) (y2 : Y ≤ 1000) : w * w < x * x + y * y ↔ W * W < X * X + Y * Y := by
  subst ew ex ey
  have p := qa_sq x1 x2
  have q := qa_sq y1 y2
  rw [Int32.lt_iff_toInt_lt, Int32.toInt_add, qa_s32 w1 w2, qa_s32 x1 x2, qa_s32 y1 y2]
  rw [Int.bmod_eq_of_le_mul_two (by omega) (by omega)]
theorem qa_lt64 {w x y : Int64} {W X Y : Int} (ew : w.toInt = W) (ex : x.toInt = X) (ey : y.toInt = Y) (w1 : -1000 ≤ W) (w2 : W ≤ 1000) (x1 : -1000 ≤ X) (x2 : X ≤ 1000) (y1 : -1000 ≤ Y) (y2 : Y ≤ 1000) : w * w < x * x + y * y ↔ W * W < X * X + Y * Y := by
  subst ew ex ey
  have p := qa_sq x1 x2
  have q := qa_sq y1 y2
  rw [Int64.lt_iff_toInt_lt, Int64.toInt_add, qa_s64 w1 w2, qa_s64 x1 x2, qa_s64 y1 y2]
  rw [Int.bmod_eq_of_le_mul_two (by omega) (by omega)]
/-- how far pixel i's centre is from u -/
def qa_d (i u : Nat) : Int := ((2 * i + 1 : Nat) : Int) - (u : Int)
theorem qa_dI {i u : Nat} (hi : i < 16) (hu : u < 32) : (nI (2 * i + 1) - nI u).toInt = qa_d i u := pk_sub_toInt (by omega) (by omega)
theorem qa_d1 {i u : Nat} (hu : u < 32) : -1000 ≤ qa_d i u := by unfold qa_d; omega
theorem qa_d2 {i u : Nat} (hi : i < 16) : qa_d i u ≤ 1000 := by unfold qa_d; omega
/-- pixel k = 16 j + i is near -/
def qa_N (u v w k : Nat) : Bool := !decide ((w : Int) * w < qa_d (k % 16) u * qa_d (k % 16) u + qa_d (k / 16) v * qa_d (k / 16) v)
theorem qa_Nij {u v w i j : Nat} (hi : i < 16) : qa_N u v w (16 * j + i) = false ↔ (w : Int) * w < qa_d i u * qa_d i u + qa_d j v * qa_d j v := by
  unfold qa_N
  rw [show (16 * j + i) % 16 = i by omega, show (16 * j + i) / 16 = j by omega]
  simp
theorem qa_near32 {u v w i j : Nat} (hu : u < 32) (hv : v < 32) (hw : w ≤ 32) (hi : i < 16) (hj : j < 16) : nI w * nI w < (nI (2 * i + 1) - nI u) * (nI (2 * i + 1) - nI u) + (nI (2 * j + 1) - nI v) * (nI (2 * j + 1) - nI v) ↔ qa_N u v w (16 * j + i) = false := by
  rw [qa_Nij hi]
  exact qa_lt32 (nI_toInt (by omega)) (qa_dI hi hu) (qa_dI hj hv) (by omega) (by omega) (qa_d1 hu) (qa_d2 hi) (qa_d1 hv) (qa_d2 hj)
theorem qa_near64 {u v w i j : Nat} (hu : u < 32) (hv : v < 32) (hw : w ≤ 32) (hi : i < 16) (hj : j < 16) : (nI w).toInt64 * (nI w).toInt64 < (nI (2 * i + 1) - nI u).toInt64 * (nI (2 * i + 1) - nI u).toInt64 + (nI (2 * j + 1) - nI v).toInt64 * (nI (2 * j + 1) - nI v).toInt64 ↔ qa_N u v w (16 * j + i) = false := by
  rw [qa_Nij hi]
  exact qa_lt64 ((Int32.toInt_toInt64 _).trans (nI_toInt (by omega))) ((Int32.toInt_toInt64 _).trans (qa_dI hi hu)) ((Int32.toInt_toInt64 _).trans (qa_dI hj hv)) (by omega) (by omega) (qa_d1 hu) (qa_d2 hi) (qa_d1 hv) (qa_d2 hj)
theorem qa_odd (i : Nat) : (2 : Int32) * nI i + 1 = nI (2 * i + 1) := by
  rw [← nI_1, ← pk_mul]
  rfl
/-- outside the box: not near -/
theorem qa_lo {a u w : Nat} (ha : a < 32) (hu : u < 32) (hw : w ≤ 32) (h : nI a < nI u - nI w) : (a : Int) - u < -(w : Int) := by
  rw [Int32.lt_iff_toInt_lt, nI_toInt (by omega), pk_sub_toInt (by omega) (by omega)] at h
  omega
theorem qa_hi {a u w : Nat} (ha : a < 32) (hu : u < 32) (hw : w ≤ 32) (h : nI u + nI w < nI a) : (w : Int) < (a : Int) - u := by
  rw [nI_add, nI_ltI (by omega) (by omega)] at h
  omega
theorem qa_outX {u v w i j : Nat} (hu : u < 32) (hw : w ≤ 32) (hi : i < 16) (h : nI (2 * i + 1) < nI u - nI w ∨ nI u + nI w < nI (2 * i + 1)) : qa_N u v w (16 * j + i) = false := by
  rw [qa_Nij hi]
  exact qa_far (h.imp (qa_lo (by omega) hu hw) (qa_hi (by omega) hu hw))
theorem qa_outY {u v w i j : Nat} (hv : v < 32) (hw : w ≤ 32) (hi : i < 16) (hj : j < 16) (h : nI (2 * j + 1) < nI v - nI w ∨ nI v + nI w < nI (2 * j + 1)) : qa_N u v w (16 * j + i) = false := by
  rw [qa_Nij hi, Int.add_comm]
  exact qa_far (h.imp (qa_lo (by omega) hv hw) (qa_hi (by omega) hv hw))
/-- found: the bits below t are N, the others are not set -/
def qa_F (N : Nat → Bool) (t : Nat) (s : Nat → Int32) : Prop := ∀ k, k < 256 → qa_t (s (k / 16)) (k % 16) = (decide (k < t) && N k)
theorem qa_F0 {N : Nat → Bool} {s : Nat → Int32} (h : ∀ j, j < 16 → s j = 0) : qa_F N 0 s := by
  intro k hk
  rw [h _ (by omega), qa_t0]
  simp
theorem qa_Fskip {N : Nat → Bool} {t : Nat} {s : Nat → Int32} (h : qa_F N t s) (hN : N t = false) : qa_F N (t + 1) s := by
  intro k hk
  rw [h k hk]
  by_cases e : k = t
  · rw [e, hN]
    simp
  · rw [show decide (k < t + 1) = decide (k < t) from decide_eq_decide.mpr ⟨fun z => by omega, fun z => by omega⟩]
theorem qa_Frow {N : Nat → Bool} {s : Nat → Int32} {j : Nat} (h : qa_F N (16 * j) s) (hN : ∀ i, i < 16 → N (16 * j + i) = false) : ∀ n, n ≤ 16 → qa_F N (16 * j + n) s
  | 0, _ => h
  | n + 1, hn => qa_Fskip (qa_Frow h hN n (by omega)) (hN n (by omega))
theorem qa_Fset {N : Nat → Bool} {s : Nat → Int32} {i j p : Nat} (hp : p = j) (hi : i < 16) (h : qa_F N (16 * j + i) s) (hN : N (16 * j + i) = true) : qa_F N (16 * j + i + 1) (upd s p (s p ||| ((1 : Int32) <<< (nI i &&& 31)))) := by
  subst hp
  intro k hk
  have g := h k hk
  by_cases ej : k / 16 = p
  · rw [ej] at g
    rw [ej, pk_us, qa_or, g, qa_b1 i hi _ (by omega)]
    by_cases e : k = 16 * p + i
    · rw [e, hN]
      simp
      omega
    · rw [decide_eq_false (show ¬ k % 16 = i by omega), Bool.or_false, show decide (k < 16 * p + i + 1) = decide (k < 16 * p + i) from decide_eq_decide.mpr ⟨fun z => by omega, fun z => by omega⟩]
  · rw [pk_un ej, g, show decide (k < 16 * p + i + 1) = decide (k < 16 * p + i) from decide_eq_decide.mpr ⟨fun z => by omega, fun z => by omega⟩]
/-- counting -/
def qa_c (Q : Nat → Bool) : Nat → Nat
  | 0 => 0
  | t + 1 => qa_c Q t + (if Q t = true then 1 else 0)
theorem qa_c1 {Q : Nat → Bool} {t : Nat} (h : Q t = true) : qa_c Q (t + 1) = qa_c Q t + 1 := by
  show qa_c Q t + (if Q t = true then 1 else 0) = _
  rw [if_pos h]
theorem qa_c0 {Q : Nat → Bool} {t : Nat} (h : Q t = false) : qa_c Q (t + 1) = qa_c Q t := by
  show qa_c Q t + (if Q t = true then 1 else 0) = _
  rw [h]
  rfl
theorem qa_cle (Q : Nat → Bool) : ∀ t, qa_c Q t ≤ t
  | 0 => Nat.le_refl 0
  | t + 1 => by
    have := qa_cle Q t
    show qa_c Q t + (if Q t = true then 1 else 0) ≤ _
    split <;> omega
theorem qa_cz {Q : Nat → Bool} (h : ∀ k, Q k = false) : ∀ t, qa_c Q t = 0
  | 0 => rfl
  | t + 1 => by rw [qa_c0 (h t), qa_cz h t]
/-- the page -/
def qa_P (c : Int32) (N : Nat → Bool) (k : Nat) : Int32 := if N k = true then c else 0
def qa_Q (c : Int32) (N : Nat → Bool) (k : Nat) : Bool := N k && !decide (c = 0)
theorem qa_Pt {c : Int32} {N : Nat → Bool} {k : Nat} (h : N k = true) : qa_P c N k = c := if_pos h
theorem qa_Pf {c : Int32} {N : Nat → Bool} {k : Nat} (h : N k = false) : qa_P c N k = 0 := by
  unfold qa_P
  rw [h]
  rfl
theorem qa_Qf {c : Int32} {N : Nat → Bool} {k : Nat} (h : N k = false) : qa_Q c N k = false := by
  unfold qa_Q
  rw [h]
  rfl
theorem qa_Q0 {c : Int32} {N : Nat → Bool} {k : Nat} (h : c = 0) : qa_Q c N k = false := by
  unfold qa_Q
  rw [decide_eq_true h]
  simp
theorem qa_Qt {c : Int32} {N : Nat → Bool} {k : Nat} (h : ¬ c = 0) (hN : N k = true) : qa_Q c N k = true := by
  unfold qa_Q
  rw [decide_eq_false h, hN]
  rfl
theorem qa_PQ {c : Int32} {N : Nat → Bool} {k : Nat} : qa_P c N k = 0 ↔ qa_Q c N k = false := by
  cases hN : N k
  · exact ⟨fun _ => qa_Qf hN, fun _ => qa_Pf hN⟩
  · rw [qa_Pt hN]
    by_cases hc : c = 0
    · exact ⟨fun _ => qa_Q0 hc, fun _ => hc⟩
    · exact ⟨fun z => absurd z hc, fun z => absurd ((qa_Qt hc hN).symm.trans z) (by decide)⟩
/-- stores -/
theorem qa_fill {s : Nat → Int32} {i k : Nat} {x : Int32} (hk : k = i) (h : ∀ j, j < i → s j = x) : ∀ j, j < i + 1 → upd s k x j = x := by
  intro j hj
  rw [hk]
  by_cases e : j = i
  · rw [e, pk_us]
  · rw [pk_un e]
    exact h j (by omega)
/-- s: below i it is f, from there on g -/
def qa_M (f g : Nat → Int32) (i : Nat) (s : Nat → Int32) : Prop := ∀ k, k < 256 → s k = if k < i then f k else g k
theorem qa_Mput {f g s : Nat → Int32} {i k : Nat} {x : Int32} (hk : k = i) (h : qa_M f g i s) (hx : x = f i) : qa_M f g (i + 1) (upd s k x) := by
  intro j hj
  rw [hk]
  by_cases e : j = i
  · rw [e, pk_us, if_pos (by omega), hx]
  · rw [pk_un e, h j hj]
    by_cases e2 : j < i
    · rw [if_pos e2, if_pos (by omega)]
    · rw [if_neg e2, if_neg (by omega)]
theorem qa_Mskip {f g s : Nat → Int32} {i : Nat} (h : qa_M f g i s) (hx : g i = f i) : qa_M f g (i + 1) s := by
  intro j hj
  rw [h j hj]
  by_cases e : j = i
  · rw [e, if_neg (by omega), if_pos (by omega), hx]
  · by_cases e2 : j < i
    · rw [if_pos e2, if_pos (by omega)]
    · rw [if_neg e2, if_neg (by omega)]
theorem qa_Mi {f g s : Nat → Int32} {i : Nat} (h : qa_M f g i s) (hi : i < 256) : s i = g i := by rw [h i hi, if_neg (by omega)]
theorem qa_M0 {f g s : Nat → Int32} (h : ∀ k, k < 256 → s k = g k) : qa_M f g 0 s := by
  intro k hk
  rw [if_neg (by omega)]
  exact h k hk
theorem qa_Me {f g s : Nat → Int32} (h : qa_M f g 256 s) : ∀ k, k < 256 → s k = f k := by
  intro k hk
  rw [h k hk, if_pos hk]
end
section
/-! walks: what the small methods do -/
section
variable {pt co mo sv po su cr : Int32} {a1 a2 a3 a4 a5 a6 a7 a8 a9 a10 a11 a12 a13 a14 a15 : Nat → Int32}
theorem qb_cell {post : Int32 → Prop} {L : Nat} {xs : Nat → Int32} {p1 : Int32} (k : Nat) (hp : p1 = nI k) (hk : k < 6) (hL : L ≤ 6) (H : ∀ x, post x) : wpL_cellAt post L xs () p1 := by
  subst hp
  exact pk_le L k (fun _ => H _) (fun z => ⟨pk_in k L z, H _⟩)
theorem qb_init {post : St2 → Prop} {mc ms : Nat} (hc : 15 ≤ mc) (hs : 732 ≤ ms)
    (H : ∀ s : Nat → Int32, (∀ j, j < 16 → s j = 65535) → post (0, 1, 0, 0, 0, 0, 0, (fun _ => 0), (fun _ => 0), (upd (upd (fun _ => 0) 0 1) 3 1), (fun _ => 0), s, (fun _ => 0), (fun _ => 0), (fun _ => 0), (fun _ => 0), (fun _ => 0), (fun _ => 0), (fun _ => 0), (fun _ => 0), (fun _ => 0), (fun _ => 0))) : wpX_init post mc ms (0, 0, 0, 0, 0, 0, 0) := by
  unfold wpX_init
  dsimp only
  refine ⟨by omega, by omega, by omega, by omega, by omega, by omega, by omega, by omega, by omega, by omega, by omega, by omega, by omega, by omega, by omega, by omega, by omega, by omega, by omega, by omega, by omega, by omega, by omega, by omega, by omega, by omega, by omega, by omega, by omega, by omega, nm_e (nm_e ?_)⟩
  exact pk_loop (fun n i s => wX_init_145 post mc ms 15 732 0 1 0 0 0 0 0 n (nI i) (fun _ => 0) (fun _ => 0) (upd (upd (fun _ => 0) 0 1) 3 1) (fun _ => 0) s (fun _ => 0) (fun _ => 0) (fun _ => 0) (fun _ => 0) (fun _ => 0) (fun _ => 0) (fun _ => 0) (fun _ => 0) (fun _ => 0) (fun _ => 0)) (fun i s => ∀ j, j < i → s j = 65535) 16 0 (fun _ => 0) (by omega) (fun j hj => absurd hj (by omega))
    (fun n s h => pk_le 16 16 (fun _ => H s h) (fun z => absurd z (by omega)))
    (fun n i s hi h hw => pk_le 16 i (fun z => absurd z (by omega)) (fun _ => ⟨pk_in i 16 hi, nm_e (nm_r (nI_1 i) (hw _ (qa_fill (nI_clamp (by omega)) h)))⟩))
theorem qb_paintBad {post : Int32 → St2 → Prop} {c m : Int32} (h : c < 0 ∨ 7 < c ∨ m < 0 ∨ 2 < m) (H : post (-1) (pt, co, mo, sv, po, su, cr, a1, a2, a3, a4, a5, a6, a7, a8, a9, a10, a11, a12, a13, a14, a15)) : wpX_paint post (pt, co, mo, sv, po, su, cr, a1, a2, a3, a4, a5, a6, a7, a8, a9, a10, a11, a12, a13, a14, a15) c m :=
  br_c (fun _ => H) (fun h0 => br_c (fun _ => H) (fun h1 => br_c (fun _ => H) (fun h2 => br_c (fun h3 => absurd (((h.resolve_left h0).resolve_left h1).resolve_left h2) (Int32.not_lt.mpr h3)) (fun _ => H))))
theorem qb_paintGood {post : Int32 → St2 → Prop} {c m : Int32} (h0 : ¬ c < 0) (h1 : ¬ 7 < c) (h2 : ¬ m < 0) (h3 : ¬ 2 < m) (H : post 1 (pt, c, m, sv, po, su, cr, a1, a2, a3, a4, a5, a6, a7, a8, a9, a10, a11, a12, a13, a14, a15)) : wpX_paint post (pt, co, mo, sv, po, su, cr, a1, a2, a3, a4, a5, a6, a7, a8, a9, a10, a11, a12, a13, a14, a15) c m :=
  br_f h0 (br_f h1 (br_f h2 (br_t (Int32.not_lt.mp h3) H)))
/-- small numbers are within -/
theorem qb_within {post : Int32 → Prop} {m x y : Nat} {M : Int32} (hM : M = nI m) (hN : (-M).toInt ≤ 0) (hm : m < 2 ^ 31) (hx : x ≤ m) (hy : y ≤ m) (H : post 1) : wpX_within post () (nI x) (nI y) M := by
  have g : ∀ z : Nat, z ≤ m → ¬ nI z < -M := by
    intro z hz h
    rw [Int32.lt_iff_toInt_lt, nI_toInt (by omega)] at h
    omega
  subst hM
  exact br_f (g x hx) (br_f (nI_nlt hx hm) (br_f (g y hy) (br_f (nI_nlt hy hm) H)))
theorem qb_move {post : Int32 → St2 → Prop} {u v : Nat} (hu : u < 32) (hv : v < 32) (m0 : a3 0 = 1) (m1 : a3 1 = 0) (m2 : a3 2 = 0) (m3 : a3 3 = 1) (m4 : a3 4 = 0) (m5 : a3 5 = 0)
    (H : post 1 (pt, co, mo, sv, 1, 1, cr, a1, a2, a3, a4, a5, a6, a7, a8, a9, (upd a10 0 (nI u)), (upd a11 0 (nI v)), (upd a12 0 0), (upd a13 0 0), a14, a15)) : wpX_move post (pt, co, mo, sv, 0, 0, cr, a1, a2, a3, a4, a5, a6, a7, a8, a9, a10, a11, a12, a13, a14, a15) (nI u) (nI v) := by
  unfold wpX_move
  dsimp only
  refine qb_within (m := 99) rfl (by decide) (by omega) (by omega) (by omega) (br_f (by decide) (br_t (by decide) ?_))
  unfold wpX_addPoint
  dsimp only
  unfold wpX_turnedX
  dsimp only
  unfold wpX_turnedY
  dsimp only
  rw [show a3 0 * nI u + a3 2 * nI v + a3 4 = nI u by rw [m0, m2, m4, Int32.zero_mul, Int32.one_mul, Int32.add_zero, Int32.add_zero], show a3 1 * nI u + a3 3 * nI v + a3 5 = nI v by rw [m1, m3, m5, Int32.zero_mul, Int32.one_mul, Int32.add_zero, Int32.zero_add]]
  refine qb_within (m := 2000) rfl (by decide) (by omega) (by omega) (by omega) (br_f (by decide) ⟨pk_in 0 16 (by omega), nm_r (e' := upd a10 0 (nI u)) (by rw [sb_cl0]) ⟨pk_in 0 16 (by omega), nm_r (e' := upd a11 0 (nI v)) (by rw [sb_cl0]) (nm_r (e' := 1) (by decide) ?_)⟩⟩)
  exact br_f (by decide) ⟨pk_in 0 16 (by omega), nm_r (e' := upd a12 0 0) (by rw [sb_cl0]) ⟨pk_in 0 16 (by omega), nm_r (e' := upd a13 0 0) (by rw [sb_cl0]) (nm_r (e' := 1) (by decide) H)⟩⟩
theorem qb_isPixel {post : Int32 → Prop} {p q : Nat} (hp : p < 16) (hq : q < 16) (H : post 1) : wpX_isPixel post () (nI p) (nI q) :=
  br_f (nI_pos (by omega)) (br_f (nI_ge (b := 16) hp (by decide)) (br_f (nI_pos (by omega)) (br_f (nI_ge (b := 16) hq (by decide)) H)))
theorem qb_pixel {post : Int32 → Prop} {p q : Nat} (hp : p < 16) (hq : q < 16) (H : post (a1 (16 * q + p))) : wpX_pixel post (pt, co, mo, sv, po, su, cr, a1, a2, a3, a4, a5, a6, a7, a8, a9, a10, a11, a12, a13, a14, a15) (nI p) (nI q) := by
  have e : (16 : Int32) * nI q + nI p = nI (16 * q + p) := by
    rw [← nI_add, ← pk_mul]
    rfl
  unfold wpX_pixel
  dsimp only
  rw [e, nI_clamp (show 16 * q + p < 2 ^ 31 by omega)]
  exact qb_isPixel hp hq (br_f (by decide) ⟨pk_in (16 * q + p) 256 (by omega), H⟩)
theorem qb_count {post : Int32 → Prop} {Q : Nat → Bool} (hQ : ∀ k, k < 256 → (a1 k = 0 ↔ Q k = false)) (H : post (nI (256 - qa_c Q 256))) : wpX_count post (pt, co, mo, sv, po, su, cr, a1, a2, a3, a4, a5, a6, a7, a8, a9, a10, a11, a12, a13, a14, a15) 0 := by
  unfold wpX_count
  dsimp only
  refine pk_loop (σ := Unit) (fun n i _ => wX_count_4 post 0 pt co mo sv po su cr a1 a2 a3 a4 a5 a6 a7 a8 a9 a10 a11 a12 a13 a14 a15 n (nI (i - qa_c Q i)) (nI i)) (fun _ _ => True) 256 0 () (by omega) trivial
    (fun n _ _ => pk_le 256 256 (fun _ => H) (fun z => absurd z (by omega))) (fun n i _ hi _ hw => pk_le 256 i (fun z => absurd z (by omega)) (fun _ => ⟨pk_in i 256 hi, ?_⟩))
  have hl := qa_cle Q i
  have t : wX_count_4 post 0 pt co mo sv po su cr a1 a2 a3 a4 a5 a6 a7 a8 a9 a10 a11 a12 a13 a14 a15 n (nI (i + 1 - qa_c Q (i + 1))) (nI (i + 1)) := hw () trivial
  rw [nI_clamp (show i < 2 ^ 31 by omega)]
  cases h : Q i
  · rw [qa_c0 h, show i + 1 - qa_c Q i = i - qa_c Q i + 1 by omega] at t
    exact br_t ((hQ i hi).mpr h) (nm_r (nI_1 _) (nm_r (nI_1 i) t))
  · rw [qa_c1 h, show i + 1 - (qa_c Q i + 1) = i - qa_c Q i by omega] at t
    exact br_f (fun z => absurd (h.symm.trans ((hQ i hi).mp z)) (by decide)) (nm_r (Int32.add_zero _) (nm_r (nI_1 i) t))
theorem qb_undoBad {post : Int32 → St2 → Prop} (H : post (-1) (0, co, mo, sv, po, su, cr, a1, a2, a3, a4, a5, a6, a7, a8, a9, a10, a11, a12, a13, a14, a15)) : wpX_undo post (0, co, mo, sv, po, su, cr, a1, a2, a3, a4, a5, a6, a7, a8, a9, a10, a11, a12, a13, a14, a15) := br_t rfl H
theorem qb_undo {post : Int32 → St2 → Prop} {Q : Nat → Bool} (hQ : ∀ k, k < 256 → (a1 k = 0 ↔ Q k = false)) (h2 : ∀ k, k < 256 → a2 k = 0) (H : ∀ s t : Nat → Int32, (∀ k, k < 256 → s k = 0) → post (nI (qa_c Q 256)) (1, co, mo, sv, po, su, cr, s, t, a3, a4, a5, a6, a7, a8, a9, a10, a11, a12, a13, a14, a15)) : wpX_undo post (1, co, mo, sv, po, su, cr, a1, a2, a3, a4, a5, a6, a7, a8, a9, a10, a11, a12, a13, a14, a15) := by
  unfold wpX_undo
  dsimp only
  refine br_f (by decide) (pk_loop (σ := (Nat → Int32) × (Nat → Int32)) (fun n i s => wX_undo_13 post 1 co mo sv po su cr n (nI (qa_c Q i)) (nI i) s.1 s.2 a3 a4 a5 a6 a7 a8 a9 a10 a11 a12 a13 a14 a15) (fun i s => qa_M (fun _ => 0) a1 i s.1 ∧ qa_M a1 (fun _ => 0) i s.2) 256 0 (a1, a2) (by omega) ⟨qa_M0 (fun k _ => rfl), qa_M0 h2⟩
    (fun n s h => pk_le 256 256 (fun _ => H s.1 s.2 (qa_Me h.1)) (fun z => absurd z (by omega))) (fun n i s hi h hw => pk_le 256 i (fun z => absurd z (by omega)) (fun _ => ?_)))
  obtain ⟨s, s'⟩ := s
  obtain ⟨g1, g2⟩ := h
  dsimp only at g1 g2
  have hc : (nI i).toNatClampNeg = i := nI_clamp (by omega)
  dsimp only
  rw [hc]
  refine ⟨pk_in i 256 hi, nm_r (qa_Mi g1 hi) ⟨pk_in i 256 hi, pk_in i 256 hi, nm_r (e' := upd s i 0) (by rw [qa_Mi g2 hi]) ⟨pk_in i 256 hi, nm_e ⟨pk_in i 256 hi, ?_⟩⟩⟩⟩
  have t : wX_undo_13 post 1 co mo sv po su cr n (nI (qa_c Q (i + 1))) (nI (i + 1)) (upd s i 0) (upd s' i (a1 i)) a3 a4 a5 a6 a7 a8 a9 a10 a11 a12 a13 a14 a15 := hw (upd s i 0, upd s' i (a1 i)) ⟨qa_Mput rfl g1 rfl, qa_Mput rfl g2 rfl⟩
  rw [pk_us]
  cases h : Q i
  · rw [qa_c0 h] at t
    exact br_t ((hQ i hi).mpr h) (nm_r (Int32.add_zero _) (nm_r (nI_1 i) t))
  · rw [qa_c1 h] at t
    exact br_f (fun z => absurd (h.symm.trans ((hQ i hi).mp z)) (by decide)) (nm_r (nI_1 _) (nm_r (nI_1 i) t))
theorem qb_close {post : Int32 → St2 → Prop} (h : a13 0 = 0) (H : post 1 (pt, co, mo, sv, po, 1, cr, a1, a2, a3, a4, a5, a6, a7, a8, a9, a10, a11, a12, (upd a13 0 1), a14, a15)) : wpX_close post (pt, co, mo, sv, po, 1, cr, a1, a2, a3, a4, a5, a6, a7, a8, a9, a10, a11, a12, a13, a14, a15) := by
  unfold wpX_close
  dsimp only
  rw [show (1 : Int32) - 1 = 0 from by decide, show (0 : Int32).toNatClampNeg = 0 from by decide]
  exact br_f (by decide) ⟨pk_in 0 16 (by omega), br_t h ⟨pk_in 0 16 (by omega), nm_e H⟩⟩
/-- a segment from a point to itself crosses nothing -/
theorem qb_cross {post : St2 → Prop} {y : Int32} (H : post (pt, co, mo, sv, po, su, cr, a1, a2, a3, a4, a5, a6, a7, a8, a9, a10, a11, a12, a13, a14, a15)) : wpX_cross post (pt, co, mo, sv, po, su, cr, a1, a2, a3, a4, a5, a6, a7, a8, a9, a10, a11, a12, a13, a14, a15) 0 0 y := by
  unfold wpX_cross
  dsimp only
  refine ⟨pk_in 0 16 (by omega), br_c (fun h => ?_) (fun h => ⟨pk_in 0 16 (by omega), br_t (Int32.not_lt.mp h) ?_⟩)⟩
  · exact ⟨pk_in 0 16 (by omega), br_t h (br_t rfl (br_t rfl H))⟩
  · exact ⟨pk_in 0 16 (by omega), br_f h ⟨pk_in 0 16 (by omega), br_t (Int32.not_lt.mp h) (br_t rfl (br_t rfl H))⟩⟩
theorem qb_last {post : Int32 → Prop} (H : post 0) : wpX_lastPoint post (pt, co, mo, sv, 1, 1, cr, a1, a2, a3, a4, a5, a6, a7, a8, a9, a10, a11, a12, a13, a14, a15) 0 := by
  unfold wpX_lastPoint
  dsimp only
  rw [show (1 : Int32) - 1 = 0 from by decide]
  exact br_t (by decide) H
theorem qb_cross28 {post : St2 → Prop} {y : Int32} (h12 : a12 0 = 0) (H : post (pt, co, mo, sv, 1, 1, cr, a1, a2, a3, a4, a5, a6, a7, a8, a9, a10, a11, a12, a13, a14, a15)) : ∃ n, wX_crossRow_28 post y n 0 pt co mo sv 1 1 cr a1 a2 a3 a4 a5 a6 a7 a8 a9 a10 a11 a12 a13 a14 a15 := by
  have c0 : (0 : Int32).toNatClampNeg = 0 := by decide
  refine ⟨2, br_f (by decide) (qb_last ⟨pk_in 0 16 (by omega), nm_r (e' := 0) (by rw [c0, h12]) ⟨2, br_f (by decide) (br_t (by decide) ⟨pk_in 0 16 (by omega), ?_⟩)⟩⟩)⟩
  rw [c0, h12]
  unfold wX_crossRow_78
  exact qb_cross (nm_r (e' := 1) (by decide) (br_t (by decide) (nm_r (e' := 1) (by decide) (br_t (by decide) H))))
theorem qb_winding {post : Int32 → St2 → Prop} {p q : Nat} (hp : p < 16) (hq : q < 16) (h12 : a12 0 = 0) (H : ∀ s : Nat → Int32, post 0 (pt, co, mo, sv, 1, 1, 0, a1, a2, a3, a4, a5, a6, a7, a8, a9, a10, a11, a12, a13, s, a15)) : wpX_winding post (pt, co, mo, sv, 1, 1, cr, a1, a2, a3, a4, a5, a6, a7, a8, a9, a10, a11, a12, a13, a14, a15) (nI p) (nI q) := by
  unfold wpX_winding
  dsimp only
  refine qb_isPixel hp hq (br_f (by decide) ?_)
  unfold wpX_crossRow
  dsimp only
  refine pk_loop (fun n i s => wX_crossRow_7 _ (nI q) pt co mo sv 1 1 0 n (nI i) a1 a2 a3 a4 a5 a6 a7 a8 a9 a10 a11 a12 a13 s a15) (fun i s => ∀ j, j < i → s j = 0) 16 0 a14 (by omega) (fun j hj => absurd hj (by omega))
    (fun n s h => pk_le 16 16 (fun _ => qb_cross28 h12 ⟨pk_in p 16 hp, ?_⟩) (fun z => absurd z (by omega)))
    (fun n i s hi h hw => pk_le 16 i (fun z => absurd z (by omega)) (fun _ => ⟨pk_in i 16 hi, nm_e (nm_r (nI_1 i) (hw _ (qa_fill (nI_clamp (by omega)) h)))⟩))
  dsimp only
  rw [nI_clamp (show p < 2 ^ 31 by omega), h p hp]
  exact H s
end
end
section
/-! walks: stroke -/
section
variable {pt co mo sv po su cr : Int32} {a1 a2 a3 a4 a5 a6 a7 a8 a9 a10 a11 a12 a13 a14 a15 : Nat → Int32}
theorem qs_near {post : Int32 → Prop} {u v w i j : Nat} (hu : u < 32) (hv : v < 32) (hw : w ≤ 32) (hi : i < 16) (hj : j < 16) (h10 : a10 0 = nI u) (h11 : a11 0 = nI v) (H0 : qa_N u v w (16 * j + i) = false → post 0) (H1 : qa_N u v w (16 * j + i) = true → post 1) : wpX_isNear post (pt, co, mo, sv, po, su, cr, a1, a2, a3, a4, a5, a6, a7, a8, a9, a10, a11, a12, a13, a14, a15) 0 0 (nI (2 * i + 1)) (nI (2 * j + 1)) (nI w) := by
  unfold wpX_isNear
  dsimp only
  rw [show (0 : Int32).toNatClampNeg = 0 from by decide, h10, h11]
  refine ⟨pk_in 0 16 (by omega), pk_in 0 16 (by omega), nm_r (e' := 0) (by rw [Int32.sub_self]; rfl) ⟨pk_in 0 16 (by omega), pk_in 0 16 (by omega), nm_r (e' := 0) (by rw [Int32.sub_self]; rfl) ⟨pk_in 0 16 (by omega), nm_e ⟨pk_in 0 16 (by omega), nm_e (nm_e (nm_r (e' := 0) (by rw [Int64.zero_mul, Int64.zero_mul]; rfl) (nm_e (br_f (by decide) ?_))))⟩⟩⟩⟩
  exact ek_if (qa_near64 hu hv hw hi hj) H0 (fun h => H1 (by simpa using h))
theorem qs_97 {post : St2 → Prop} {J : Int32 → (Nat → Int32) → (Nat → Int32) → (Nat → Int32) → (Nat → Int32) → (Nat → Int32) → (Nat → Int32) → (Nat → Int32) → (Nat → Int32) → (Nat → Int32) → (Nat → Int32) → (Nat → Int32) → (Nat → Int32) → (Nat → Int32) → (Nat → Int32) → (Nat → Int32) → Prop} {u v w j : Nat} (hu : u < 32) (hv : v < 32) (hw : w ≤ 32) (hj : j < 16) (h10 : a10 0 = nI u) (h11 : a11 0 = nI v) (hF : qa_F (qa_N u v w) (16 * j) a15)
    (H : ∀ s, qa_F (qa_N u v w) (16 * (j + 1)) s → J (nI (j + 1)) a1 a2 a3 a4 a5 a6 a7 a8 a9 a10 a11 a12 a13 a14 s) : ∃ n, wX_strokeOne_97 post J 0 0 (nI w) (nI u - nI w) (nI u + nI w) (nI v - nI w) (nI v + nI w) (nI j) (nI (2 * j + 1)) pt co mo sv po su cr n 0 a1 a2 a3 a4 a5 a6 a7 a8 a9 a10 a11 a12 a13 a14 a15 := by
  have out : (nI (2 * j + 1) < nI v - nI w ∨ nI v + nI w < nI (2 * j + 1)) → J (nI (j + 1)) a1 a2 a3 a4 a5 a6 a7 a8 a9 a10 a11 a12 a13 a14 a15 := fun h => H a15 (qa_Frow hF (fun i hi => qa_outY hv hw hi hj h) 16 (by omega))
  by_cases c1 : nI (2 * j + 1) < nI v - nI w
  · exact ⟨1, br_f (by decide) (br_t c1 (nm_r (nI_1 j) (out (Or.inl c1))))⟩
  by_cases c2 : nI v + nI w < nI (2 * j + 1)
  · exact ⟨1, br_f (by decide) (br_f c1 (br_t c2 (nm_r (nI_1 j) (out (Or.inr c2)))))⟩
  refine pk_loop (fun n i s => wX_strokeOne_97 post J 0 0 (nI w) (nI u - nI w) (nI u + nI w) (nI v - nI w) (nI v + nI w) (nI j) (nI (2 * j + 1)) pt co mo sv po su cr n (nI i) a1 a2 a3 a4 a5 a6 a7 a8 a9 a10 a11 a12 a13 a14 s) (fun i s => qa_F (qa_N u v w) (16 * j + i) s) 16 0 a15 (by omega) hF
    (fun n s h => pk_le 16 16 (fun _ => nm_r (nI_1 j) (H s h)) (fun z => absurd z (by omega))) (fun n i s hi h hw' => pk_le 16 i (fun z => absurd z (by omega)) (fun _ => br_f c1 (br_f c2 (nm_r (qa_odd i) ?_))))
  have skip : qa_N u v w (16 * j + i) = false → wX_strokeOne_97 post J 0 0 (nI w) (nI u - nI w) (nI u + nI w) (nI v - nI w) (nI v + nI w) (nI j) (nI (2 * j + 1)) pt co mo sv po su cr n (nI (i + 1)) a1 a2 a3 a4 a5 a6 a7 a8 a9 a10 a11 a12 a13 a14 s := fun hN => hw' s (qa_Fskip h hN)
  refine br_c (fun g => nm_r (nI_1 i) (skip (qa_outX hu hw hi (Or.inl g)))) (fun _ => br_c (fun g => nm_r (nI_1 i) (skip (qa_outX hu hw hi (Or.inr g)))) (fun _ => ?_))
  refine qs_near hu hv hw hi hj h10 h11 (fun hN => br_t rfl (nm_r (nI_1 i) (skip hN))) (fun hN => br_f (by decide) ⟨pk_in j 16 hj, pk_in j 16 hj, nm_e (nm_r (nI_1 i) ?_)⟩)
  exact hw' _ (qa_Fset (nI_clamp (by omega)) hi h hN)
theorem qs_one {post : St2 → Prop} {u v w : Nat} (hu : u < 32) (hv : v < 32) (hw : w ≤ 32) (h10 : a10 0 = nI u) (h11 : a11 0 = nI v) (hF : qa_F (qa_N u v w) 0 a15)
    (H : ∀ s, qa_F (qa_N u v w) 256 s → post (pt, co, mo, sv, po, su, cr, a1, a2, a3, a4, a5, a6, a7, a8, a9, a10, a11, a12, a13, a14, s)) : wpX_strokeOne post (pt, co, mo, sv, po, su, cr, a1, a2, a3, a4, a5, a6, a7, a8, a9, a10, a11, a12, a13, a14, a15) 0 0 (nI w) := by
  have c0 : (0 : Int32).toNatClampNeg = 0 := by decide
  have L : ∀ (P : Int32 → Prop) (x : Int32), P x → wpX_lesser P () x x := fun P x h => br_c (fun _ => h) (fun _ => h)
  have G : ∀ (P : Int32 → Prop) (x : Int32), P x → wpX_greater P () x x := fun P x h => br_c (fun _ => h) (fun _ => h)
  have i0 : vp_in 0 16 := pk_in 0 16 (by omega)
  unfold wpX_strokeOne
  dsimp only
  rw [c0, h10, h11]
  refine ⟨i0, i0, L _ _ (nm_e ⟨i0, i0, G _ _ (nm_e ⟨i0, i0, L _ _ (nm_e ⟨i0, i0, G _ _ (nm_e ?_)⟩)⟩)⟩)⟩
  exact pk_loop (fun n j s => wX_strokeOne_79 post 0 0 (nI w) (nI u - nI w) (nI u + nI w) (nI v - nI w) (nI v + nI w) pt co mo sv po su cr n (nI j) a1 a2 a3 a4 a5 a6 a7 a8 a9 a10 a11 a12 a13 a14 s) (fun j s => qa_F (qa_N u v w) (16 * j) s) 16 0 a15 (by omega) hF
    (fun n s h => pk_le 16 16 (fun _ => H s h) (fun z => absurd z (by omega)))
    (fun n j s hj h hw' => pk_le 16 j (fun z => absurd z (by omega)) (fun _ => nm_r (qa_odd j) (qs_97 hu hv hw hj h10 h11 h (fun s' h' => hw' s' h'))))
theorem qs_mixed {post : Int32 → Prop} {x : Int32} (hx : x = 0) (H : post co) : wpX_mixed post (pt, co, mo, sv, po, su, cr, a1, a2, a3, a4, a5, a6, a7, a8, a9, a10, a11, a12, a13, a14, a15) x := by
  subst hx
  unfold wpX_mixed
  dsimp only
  rw [Int32.zero_xor]
  exact br_c (fun _ => H) (fun _ => br_c (fun _ => br_t rfl H) (fun _ => H))
theorem qs_paint {post : Int32 → St2 → Prop} {N : Nat → Bool} (h1 : ∀ k, k < 256 → a1 k = 0) (h2 : ∀ k, k < 256 → a2 k = 0) (h5 : ∀ j, j < 16 → a5 j = 65535) (hF : qa_F N 256 a15)
    (H : ∀ s t : Nat → Int32, (∀ k, k < 256 → s k = qa_P co N k) → (∀ k, k < 256 → t k = 0) → post (nI (qa_c (qa_Q co N) 256)) (1, co, mo, sv, po, su, cr, s, t, a3, a4, a5, a6, a7, a8, a9, a10, a11, a12, a13, a14, a15)) : wpX_paintFound post (pt, co, mo, sv, po, su, cr, a1, a2, a3, a4, a5, a6, a7, a8, a9, a10, a11, a12, a13, a14, a15) := by
  unfold wpX_paintFound
  dsimp only
  refine pk_loop (σ := (Nat → Int32) × (Nat → Int32)) (fun n i s => wX_paintFound_9 post 1 co mo sv po su cr n (nI (qa_c (qa_Q co N) i)) (nI i) s.1 s.2 a3 a4 a5 a6 a7 a8 a9 a10 a11 a12 a13 a14 a15) (fun i s => qa_M (qa_P co N) (fun _ => 0) i s.1 ∧ qa_M (fun _ => 0) (fun _ => 0) i s.2) 256 0 (a1, a2) (by omega) ⟨qa_M0 h1, qa_M0 h2⟩
    (fun n s h => pk_le 256 256 (fun _ => H s.1 s.2 (qa_Me h.1) (qa_Me h.2)) (fun z => absurd z (by omega))) (fun n i s hi h hw => pk_le 256 i (fun z => absurd z (by omega)) (fun _ => ?_))
  obtain ⟨s, s'⟩ := s
  obtain ⟨g1, g2⟩ := h
  dsimp only at g1 g2
  have hc : (nI i).toNatClampNeg = i := nI_clamp (by omega)
  have hd : nI i / 16 = nI (i / 16) := pk_div (d := 16) (by omega) (by omega) (by omega)
  have hr : nI i - nI i / 16 * 16 = nI (i % 16) := pk_rem (d := 16) (by omega) (by omega) (by omega)
  have hq : (nI (i / 16)).toNatClampNeg = i / 16 := nI_clamp (by omega)
  have e1 : s i = 0 := qa_Mi g1 hi
  have T : ∀ z, qa_M (qa_P co N) (fun _ => 0) (i + 1) z → wX_paintFound_9 post 1 co mo sv po su cr n (nI (qa_c (qa_Q co N) (i + 1))) (nI (i + 1)) z (upd s' i 0) a3 a4 a5 a6 a7 a8 a9 a10 a11 a12 a13 a14 a15 := fun z hz => hw (z, upd s' i 0) ⟨hz, qa_Mput rfl g2 rfl⟩
  dsimp only
  rw [hc, hr, hd, e1]
  refine ⟨pk_in i 256 hi, pk_in i 256 hi, nm_e ⟨by decide, nm_e ⟨pk_in (i / 16) 16 (by omega), pk_in (i / 16) 16 (by omega), by decide, ?_⟩⟩⟩
  rw [hq]
  have hit : ((a15 (i / 16) &&& a5 (i / 16)) &&& ((1 : Int32) <<< (nI (i % 16) &&& 31))) = 0 ↔ N i = false := by
    rw [qa_hit (h5 (i / 16) (by omega)) (by omega), hF i hi, decide_eq_true hi, Bool.true_and]
  refine ek_if hit (fun hN' => ?_) (fun hN => ?_)
  · have t := T s (qa_Mskip g1 (qa_Pf hN').symm)
    rw [qa_c0 (qa_Qf hN')] at t
    exact nm_r (nI_1 i) t
  · have hN' : N i = true := by simpa using hN
    have t := T (upd s i co) (qa_Mput rfl g1 (qa_Pt hN').symm)
    refine ⟨pk_in i 256 hi, qs_mixed rfl ⟨pk_in i 256 hi, br_c (fun z => ?_) (fun z => ?_)⟩⟩
    · rw [qa_c0 (qa_Q0 z)] at t
      unfold wX_paintFound_85
      rw [hc]
      exact nm_r (Int32.add_zero _) ⟨pk_in i 256 hi, nm_e (nm_r (nI_1 i) t)⟩
    · rw [qa_c1 (qa_Qt z hN')] at t
      unfold wX_paintFound_85
      rw [hc]
      exact nm_r (nI_1 _) ⟨pk_in i 256 hi, nm_e (nm_r (nI_1 i) t)⟩
theorem qs_strokeBad {post : Int32 → St2 → Prop} {w : Int32} (h : w < 0 ∨ 32 < w) (H : post (-1) (pt, co, mo, sv, po, su, cr, a1, a2, a3, a4, a5, a6, a7, a8, a9, a10, a11, a12, a13, a14, a15)) : wpX_stroke post (pt, co, mo, sv, po, su, cr, a1, a2, a3, a4, a5, a6, a7, a8, a9, a10, a11, a12, a13, a14, a15) w :=
  br_c (fun _ => H) (fun h0 => br_f (fun h1 => absurd (h.resolve_left h0) (Int32.not_lt.mpr h1)) H)
theorem qs_stroke {post : Int32 → St2 → Prop} {u v w : Nat} (hu : u < 32) (hv : v < 32) (hw : w ≤ 32) (h1 : ∀ k, k < 256 → a1 k = 0) (h2 : ∀ k, k < 256 → a2 k = 0) (h5 : ∀ j, j < 16 → a5 j = 65535) (h10 : a10 0 = nI u) (h11 : a11 0 = nI v) (h12 : a12 0 = 0) (h13 : a13 0 = 0)
    (H : ∀ s t r : Nat → Int32, (∀ k, k < 256 → s k = qa_P co (qa_N u v w) k) → (∀ k, k < 256 → t k = 0) → post (nI (qa_c (qa_Q co (qa_N u v w)) 256)) (1, co, mo, sv, 1, 1, cr, s, t, a3, a4, a5, a6, a7, a8, a9, a10, a11, a12, a13, a14, r)) : wpX_stroke post (pt, co, mo, sv, 1, 1, cr, a1, a2, a3, a4, a5, a6, a7, a8, a9, a10, a11, a12, a13, a14, a15) (nI w) := by
  have c0 : (0 : Int32).toNatClampNeg = 0 := by decide
  unfold wpX_stroke
  dsimp only
  refine br_f (nI_pos (by omega)) (br_t (nI_le (b := 32) hw (by omega)) ?_)
  refine pk_loop (fun n i s => wX_stroke_14 post (nI w) pt co mo sv 1 1 cr n (nI i) a1 a2 a3 a4 a5 a6 a7 a8 a9 a10 a11 a12 a13 a14 s) (fun i s => ∀ j, j < i → s j = 0) 16 0 a15 (by omega) (fun j hj => absurd hj (by omega))
    (fun n s h => pk_le 16 16 (fun _ => ?_) (fun z => absurd z (by omega)))
    (fun n i s hi h hw' => pk_le 16 i (fun z => absurd z (by omega)) (fun _ => ⟨pk_in i 16 hi, nm_e (nm_r (nI_1 i) (hw' _ (qa_fill (nI_clamp (by omega)) h)))⟩))
  refine ⟨2, br_f (by decide) ⟨pk_in 0 16 (by omega), nm_r (e' := 0) (by rw [c0, h12]) (qb_last ⟨1, br_t (by decide) ⟨pk_in 0 16 (by omega), br_t (by rw [c0, h13]) (br_t rfl ?_)⟩⟩)⟩⟩
  unfold wX_stroke_99
  refine qs_one hu hv hw h10 h11 (qa_F0 h) (fun s' hF => nm_r (e' := 1) (by decide) (br_t (by decide) ?_))
  exact qs_paint h1 h2 h5 hF (fun p q g1 g2 => H p q s' g1 g2)
end
end
section
/-! the law -/
section
variable {pt co mo sv po su cr : Int32} {a1 a2 a3 a4 a5 a6 a7 a8 a9 a10 a11 a12 a13 a14 a15 : Nat → Int32}
variable {post : Int32 → St0 → Prop} {mc ms kc ks p q u v : Nat}
theorem ql_282 (hp : post 1 ()) (hp' : p < 16) (hq : q < 16) {z : Int32} (h1 : ∀ k, k < 256 → a1 k = 0) (h12 : a12 0 = 0) (h13 : a13 0 = 0) : wL_lawOf_282 post mc ms (nI p) (nI q) z z kc ks pt co mo sv 1 1 cr a1 a2 a3 a4 a5 a6 a7 a8 a9 a10 a11 a12 a13 a14 a15 := by
  unfold wL_lawOf_282
  exact br_t rfl (qb_pixel hp' hq (br_t (h1 _ (by omega)) (qb_close h13 (br_t rfl (qb_winding hp' hq h12 (fun s => br_t rfl hp))))))
theorem ql_237bad (hp : post 1 ()) (hp' : p < 16) (hq : q < 16) {z x : Int32} (h1 : ∀ k, k < 256 → a1 k = 0) (h12 : a12 0 = 0) (h13 : a13 0 = 0) : wL_lawOf_237 post mc ms 0 x (nI p) (nI q) z z kc ks 0 co mo sv 1 1 cr a1 a2 a3 a4 a5 a6 a7 a8 a9 a10 a11 a12 a13 a14 a15 := by
  unfold wL_lawOf_237
  refine br_t rfl (qb_count (Q := fun _ => false) (fun k hk => ⟨fun _ => rfl, fun _ => h1 k hk⟩) (br_t rfl ?_))
  unfold wL_lawOf_260
  exact br_t (by rw [qa_cz (fun _ => rfl)]; decide) (qb_undoBad (br_t rfl (ql_282 hp hp' hq h1 h12 h13)))
theorem ql_237good {c : Int32} {N : Nat → Bool} (hp : post 1 ()) (hp' : p < 16) (hq : q < 16) {z : Int32} (h1 : ∀ k, k < 256 → a1 k = qa_P c N k) (h2 : ∀ k, k < 256 → a2 k = 0) (h12 : a12 0 = 0) (h13 : a13 0 = 0) : wL_lawOf_237 post mc ms 1 (nI (qa_c (qa_Q c N) 256)) (nI p) (nI q) z z kc ks 1 co mo sv 1 1 cr a1 a2 a3 a4 a5 a6 a7 a8 a9 a10 a11 a12 a13 a14 a15 := by
  have hQ : ∀ k, k < 256 → (a1 k = 0 ↔ qa_Q c N k = false) := fun k hk => by
    rw [h1 k hk]
    exact qa_PQ
  have hl := qa_cle (qa_Q c N) 256
  unfold wL_lawOf_237
  refine br_t rfl (qb_count hQ (br_f (by decide) ?_))
  unfold wL_lawOf_260
  exact br_t (pk_sub (a := 256) hl).symm (qb_undo hQ h2 (fun s t hs => br_f (by decide) (ql_282 hp hp' hq hs h12 h13)))
theorem ql_150bad (hp : post 1 ()) {x2 x5 x7 x8 x10 x : Int32} (h1 : ∀ k, k < 256 → a1 k = 0) (h12 : a12 0 = 0) (h13 : a13 0 = 0) : wL_lawOf_150 post mc ms x2 x5 x7 x8 x10 0 x kc ks 0 co mo sv 1 1 cr a1 a2 a3 a4 a5 a6 a7 a8 a9 a10 a11 a12 a13 a14 a15 := by
  obtain ⟨p, hp', ep⟩ := pk_andE x5 (m := 15) 4 (by decide)
  obtain ⟨q, hq, eq⟩ := pk_andE (x5 >>> ((4 : Int32) &&& 31)) (m := 15) 4 (by decide)
  unfold wL_lawOf_150
  refine nm_r ep (nm_r eq (nm_e (nm_e (br_t rfl ?_))))
  unfold wL_lawOf_214 wL_lawOf_215
  refine qb_pixel hp' hq (br_t rfl ?_)
  rw [h1 _ (by omega)]
  exact ql_237bad hp hp' hq h1 h12 h13
theorem ql_150good {w : Nat} (hu : u < 32) (hv : v < 32) (hw : w ≤ 32) (hp : post 1 ()) {x5 : Int32} (h1 : ∀ k, k < 256 → a1 k = qa_P co (qa_N u v w) k) (h2 : ∀ k, k < 256 → a2 k = 0) (h12 : a12 0 = 0) (h13 : a13 0 = 0) : wL_lawOf_150 post mc ms (nI w) x5 (nI u) (nI v) co 1 (nI (qa_c (qa_Q co (qa_N u v w)) 256)) kc ks 1 co mo sv 1 1 cr a1 a2 a3 a4 a5 a6 a7 a8 a9 a10 a11 a12 a13 a14 a15 := by
  obtain ⟨p, hp', ep⟩ := pk_andE x5 (m := 15) 4 (by decide)
  obtain ⟨q, hq, eq⟩ := pk_andE (x5 >>> ((4 : Int32) &&& 31)) (m := 15) 4 (by decide)
  have hp16 : p < 16 := hp'
  have hq16 : q < 16 := hq
  unfold wL_lawOf_150
  refine nm_r ep (nm_r eq (nm_r (e' := nI (2 * p + 1) - nI u) (by rw [qa_odd]) (nm_r (e' := nI (2 * q + 1) - nI v) (by rw [qa_odd]) (br_f (by decide) ?_))))
  refine ek_if (qa_near32 hu hv hw hp16 hq16) (fun hN => ?_) (fun hN => ?_)
  · unfold wL_lawOf_214 wL_lawOf_215
    refine qb_pixel hp16 hq16 (br_t rfl ?_)
    rw [h1 _ (by omega), qa_Pf hN]
    exact ql_237good hp hp16 hq16 h1 h2 h12 h13
  · unfold wL_lawOf_215
    refine qb_pixel hp16 hq16 (br_f (by decide) ?_)
    rw [h1 _ (by omega), qa_Pt (by simpa using hN)]
    exact ql_237good hp hp16 hq16 h1 h2 h12 h13
theorem ql_109bad (hp : post 1 ()) {x2 x5 x7 x8 x10 : Int32} (h : x2 < 0 ∨ 32 < x2) (h1 : ∀ k, k < 256 → a1 k = 0) (h12 : a12 0 = 0) (h13 : a13 0 = 0) : wL_lawOf_109 post mc ms x2 x5 x7 x8 x10 0 kc ks 0 co mo sv 1 1 cr a1 a2 a3 a4 a5 a6 a7 a8 a9 a10 a11 a12 a13 a14 a15 := by
  unfold wL_lawOf_109
  exact qs_strokeBad h (br_t rfl (br_t rfl (ql_150bad hp h1 h12 h13)))
theorem ql_109good {w : Nat} (hu : u < 32) (hv : v < 32) (hw : w ≤ 32) (hp : post 1 ()) {x5 : Int32} (h1 : ∀ k, k < 256 → a1 k = 0) (h2 : ∀ k, k < 256 → a2 k = 0) (h5 : ∀ j, j < 16 → a5 j = 65535) (h10 : a10 0 = nI u) (h11 : a11 0 = nI v) (h12 : a12 0 = 0) (h13 : a13 0 = 0) : wL_lawOf_109 post mc ms (nI w) x5 (nI u) (nI v) co 1 kc ks 0 co mo sv 1 1 cr a1 a2 a3 a4 a5 a6 a7 a8 a9 a10 a11 a12 a13 a14 a15 := by
  have hl := qa_cle (qa_Q co (qa_N u v w)) 256
  unfold wL_lawOf_109
  refine qs_stroke hu hv hw h1 h2 h5 h10 h11 h12 h13 (fun s t r hs ht => br_f (by decide) (br_f (nI_pos (by omega)) (br_c (fun hc => br_t ?_ ?_) (fun hc => ?_))))
  · rw [qa_cz (fun k => qa_Q0 hc)]
    rfl
  · exact ql_150good hu hv hw hp hs ht h12 h13
  · exact ql_150good hu hv hw hp hs ht h12 h13
theorem ql_82 (hu : u < 32) (hv : v < 32) (hp : post 1 ()) {x2 x5 : Int32} (h1 : ∀ k, k < 256 → a1 k = 0) (h2 : ∀ k, k < 256 → a2 k = 0) (m0 : a3 0 = 1) (m1 : a3 1 = 0) (m2 : a3 2 = 0) (m3 : a3 3 = 1) (m4 : a3 4 = 0) (m5 : a3 5 = 0) (h5 : ∀ j, j < 16 → a5 j = 65535) : wL_lawOf_82 post mc ms x2 x5 (nI u) (nI v) co kc ks 0 co mo sv 0 0 cr a1 a2 a3 a4 a5 a6 a7 a8 a9 a10 a11 a12 a13 a14 a15 := by
  unfold wL_lawOf_82
  refine qb_move hu hv m0 m1 m2 m3 m4 m5 (br_c (fun g => ?_) (fun g => br_c (fun g' => ?_) (fun g' => ?_)))
  · unfold wL_lawOf_108
    exact ql_109bad hp (Or.inl g) h1 pk_us pk_us
  · unfold wL_lawOf_108
    exact ql_109bad hp (Or.inr g') h1 pk_us pk_us
  · obtain ⟨w, hw, rfl⟩ := nI_of2 (M := 32) (n := 32) (by decide) g (Int32.not_lt.mp g')
    exact ql_109good hu hv hw hp h1 h2 h5 pk_us pk_us pk_us pk_us
theorem ql_47bad (hu : u < 32) (hv : v < 32) (hp : post 1 ()) {x2 c m x5 : Int32} (h : c < 0 ∨ 7 < c ∨ m < 0 ∨ 2 < m) (h1 : ∀ k, k < 256 → a1 k = 0) (h2 : ∀ k, k < 256 → a2 k = 0) (m0 : a3 0 = 1) (m1 : a3 1 = 0) (m2 : a3 2 = 0) (m3 : a3 3 = 1) (m4 : a3 4 = 0) (m5 : a3 5 = 0) (h5 : ∀ j, j < 16 → a5 j = 65535) : wL_lawOf_46 post mc ms x2 c m x5 (nI u) (nI v) kc ks 0 1 mo sv 0 0 cr a1 a2 a3 a4 a5 a6 a7 a8 a9 a10 a11 a12 a13 a14 a15 := by
  unfold wL_lawOf_46 wL_lawOf_47
  refine qb_paintBad h (br_t rfl ?_)
  unfold wL_lawOf_67
  exact br_t rfl (br_t rfl (ql_82 hu hv hp h1 h2 m0 m1 m2 m3 m4 m5 h5))
theorem ql_47good (hu : u < 32) (hv : v < 32) (hp : post 1 ()) {x2 c m x5 : Int32} (g0 : ¬ c < 0) (g1 : ¬ 7 < c) (g2 : ¬ m < 0) (g3 : ¬ 2 < m) (h1 : ∀ k, k < 256 → a1 k = 0) (h2 : ∀ k, k < 256 → a2 k = 0) (m0 : a3 0 = 1) (m1 : a3 1 = 0) (m2 : a3 2 = 0) (m3 : a3 3 = 1) (m4 : a3 4 = 0) (m5 : a3 5 = 0) (h5 : ∀ j, j < 16 → a5 j = 65535) : wL_lawOf_47 post mc ms x2 c m x5 (nI u) (nI v) 1 kc ks 0 co mo sv 0 0 cr a1 a2 a3 a4 a5 a6 a7 a8 a9 a10 a11 a12 a13 a14 a15 := by
  unfold wL_lawOf_47
  refine qb_paintGood g0 g1 g2 g3 (br_f (by decide) ?_)
  unfold wL_lawOf_67
  exact br_t rfl (br_f (by decide) (ql_82 hu hv hp h1 h2 m0 m1 m2 m3 m4 m5 h5))
theorem ql_lawOf (hp : post 1 ()) (x y w c m i : Int32) : wpL_lawOf post 404 6448 () x y w c m i := by
  obtain ⟨u, hu, eu⟩ := pk_andE x (m := 31) 5 (by decide)
  obtain ⟨v, hv, ev⟩ := pk_andE y (m := 31) 5 (by decide)
  unfold wpL_lawOf
  refine ⟨by omega, by omega, 15, 732, by omega, by omega, qb_init (by omega) (by omega) (fun s hs => nm_r eu (nm_r ev ?_))⟩
  have B : ∀ kc ks, (c < 0 ∨ 7 < c ∨ m < 0 ∨ 2 < m) → wL_lawOf_46 post 404 6448 w c m i (nI u) (nI v) kc ks 0 1 0 0 0 0 0 (fun _ => 0) (fun _ => 0) (upd (upd (fun _ => 0) 0 1) 3 1) (fun _ => 0) s (fun _ => 0) (fun _ => 0) (fun _ => 0) (fun _ => 0) (fun _ => 0) (fun _ => 0) (fun _ => 0) (fun _ => 0) (fun _ => 0) (fun _ => 0) := fun kc ks h => ql_47bad hu hv hp h (fun _ _ => rfl) (fun _ _ => rfl) rfl rfl rfl rfl rfl rfl hs
  exact br_c (fun g => B _ _ (Or.inl g)) (fun g0 => br_c (fun g => B _ _ (Or.inr (Or.inl g))) (fun g1 => br_c (fun g => B _ _ (Or.inr (Or.inr (Or.inl g)))) (fun g2 => br_c (fun g => B _ _ (Or.inr (Or.inr (Or.inr g)))) (fun g3 => ql_47good hu hv hp g0 g1 g2 g3 (fun _ _ => rfl) (fun _ _ => rfl) rfl rfl rfl rfl rfl rfl hs))))
end
theorem i_vc (xs : Nat → Int32) (L : Nat) (hL : L ≤ 6) : wpL_law (fun r => r = 1) L xs := by
  unfold wpL_law
  exact qb_cell 0 rfl (by omega) hL (fun x => qb_cell 1 rfl (by omega) hL (fun y => qb_cell 2 rfl (by omega) hL (fun w => qb_cell 3 rfl (by omega) hL (fun c => qb_cell 4 rfl (by omega) hL (fun m => qb_cell 5 rfl (by omega) hL (fun i => ⟨404, 6448, by omega, by omega, ql_lawOf (post := fun r _ => r = 1) rfl x y w c m i⟩))))))
end
