section
section
variable {mk : Int64} {a1 a2 a4 a5 a6 a7 a8 : Nat → Int32} {a3 : Nat → Int64}

/-! closed tables -/
theorem ea_lin (a l b : Nat) : nI a * nI l + nI b = nI (a * l + b) := by rw [pk_mul, nI_add]
theorem ea_at {l : Nat} (hl : l ≤ 3) : ((60 : Int32) * nI l + 0).toNatClampNeg = 60 * l := pk_cl (60 * l + 0) (ea_lin 60 l 0)
theorem ea_edge : ∀ W, W < 65 → ((0 : Int32) - nI W + 1) + 256 = nI (257 - W) := by decide +kernel
theorem ea_edge0 : ∀ W, W < 65 → 4 ≤ W → (0 : Int32) - nI W + 1 < 0 := by decide +kernel
theorem ea_back : ∀ m, m < 256 → 256 * ((0 : Int32) - 1) + nI m = nI m - 256 := by decide +kernel
theorem ea_early : ∀ m, m < 256 → ¬ (1 : Int32) ≤ nI m - 256 := by decide +kernel
theorem ea_neg : ∀ m, m < 256 → 1 ≤ m → (0 : Int32) - nI m < 0 := by decide +kernel
theorem ea_mask : ∀ W, W < 64 → 4 ≤ W → (1 : Int64) &&& (((1 : Int64) <<< ((nI W).toInt64 &&& 63)) - 1) = 1 := by decide +kernel
theorem ea_bit : ∀ k, k < 64 → ((((1 : Int64).toUInt64 >>> ((nI k).toInt64.toUInt64 &&& Int64.toUInt64 63)).toInt64) &&& 1).toInt32 = (if k = 0 then 1 else 0) := by decide +kernel
theorem ea_lostN : ∀ W, W < 65 → 4 ≤ W → ¬ (0 : Int32) < 0 - nI W := by decide +kernel

/-! isLine, isLow -/
theorem ea_line_y {post : Int32 → Prop} {l : Nat} (hl : l ≤ 3) (h : post 1) : wpX_isLine post () (nI l) :=
  br_f (nI_pos (by omega)) (br_f (nI_nlt hl (by decide)) h)
theorem ea_line_n {post : Int32 → Prop} {x : Int32} (hx : x < 0 ∨ 3 < x) (h : post 0) : wpX_isLine post () x :=
  br_c (fun _ => h) (fun z => br_c (fun _ => h) (fun z2 => absurd hx (fun t => t.elim z z2)))
theorem ea_low_y {post : Int32 → Prop} {m : Nat} (hm : m ≤ 255) (h : post 1) : wpX_isLow post () (nI m) :=
  br_f (nI_pos (by omega)) (br_f (nI_nlt hm (by decide)) h)
theorem ea_low_n {post : Int32 → Prop} {x : Int32} (hx : x < 0 ∨ 255 < x) (h : post 0) : wpX_isLow post () x :=
  br_c (fun _ => h) (fun z => br_c (fun _ => h) (fun z2 => absurd hx (fun t => t.elim z z2)))

/-! the constructor -/
theorem ea_fill {s : Nat → Int32} {i k : Nat} {x : Int32} (hk : k = i) (h : ∀ j, j < i → s j = x) : ∀ j, j < i + 1 → upd s k x j = x := by
  intro j hj
  rw [hk]
  by_cases e : j = i
  · rw [e, pk_us]
  · rw [pk_un e]
    exact h j (by omega)
theorem ea_i121 {post : St2 → Prop} {mc ms kc ks : Nat} {w : Int32} (H : ∀ b6 b7 : Nat → Int32, (∀ j, j < 4 → b7 j = 60) → post (w, mk, a1, a2, a3, a4, a5, b6, b7, a8)) : ∃ n, wX_init_121 post mc ms kc ks w mk n 0 a1 a2 a3 a4 a5 a6 a7 a8 :=
  pk_loop (σ := (Nat → Int32) × (Nat → Int32)) (fun n i s => wX_init_121 post mc ms kc ks w mk n (nI i) a1 a2 a3 a4 a5 s.1 s.2 a8) (fun i s => ∀ j, j < i → s.2 j = 60) 4 0 (a6, a7) (by omega) (fun j hj => absurd hj (by omega))
    (fun n s h => pk_le 4 4 (fun _ => H s.1 s.2 h) (fun z => absurd z (by omega)))
    (fun n i s hi h hw => pk_le 4 i (fun z => absurd z (by omega)) (fun _ => ⟨pk_in i 4 hi, nm_e ⟨pk_in i 4 hi, nm_e (nm_r (nI_1 i) (hw (upd s.1 (nI i).toNatClampNeg 40, upd s.2 (nI i).toNatClampNeg 60) (ea_fill (nI_clamp (by omega)) h)))⟩⟩))
/-- the state that the constructor leaves -/
def ea_ok (W : Nat) (mk : Int64) (a1 a2 : Nat → Int32) (a3 : Nat → Int64) (a4 a7 : Nat → Int32) : Prop := 4 ≤ W ∧ W ≤ 64 ∧ (1 : Int64) &&& mk = 1 ∧ ∀ j, j < 4 → a1 j = 0 ∧ a2 j = 0 ∧ a3 j = 0 ∧ a4 j = 0 ∧ a7 j = 60
theorem ea_i92 {post : St2 → Prop} {mc ms kc ks W : Nat} (h4 : 4 ≤ W) (h64 : W ≤ 64) (H : ∀ (mk : Int64) (a1 a2 : Nat → Int32) (a3 : Nat → Int64) (a4 a5 a6 a7 a8 : Nat → Int32), ea_ok W mk a1 a2 a3 a4 a7 → post (nI W, mk, a1, a2, a3, a4, a5, a6, a7, a8)) : wX_init_92 post mc ms kc ks (nI W) mk (fun _ => 0) (fun _ => 0) (fun _ => 0) (fun _ => 0) (fun _ => 0) (fun _ => 0) (fun _ => 0) (fun _ => 0) :=
  pk_eq W 64 (fun z => ea_i121 (fun b6 b7 hb => H _ _ _ _ _ _ _ _ _ ⟨h4, h64, by decide, fun j hj => ⟨rfl, rfl, rfl, rfl, hb j hj⟩⟩))
    (fun z => nm_e (ea_i121 (fun b6 b7 hb => H _ _ _ _ _ _ _ _ _ ⟨h4, h64, ea_mask W (by omega) h4, fun j hj => ⟨rfl, rfl, rfl, rfl, hb j hj⟩⟩)))
theorem ea_init {post : St2 → Prop} {mc ms : Nat} {f0 : Int32} {p0 : Int32} (hc : 8 ≤ mc) (hs : 288 ≤ ms)
    (H : ∀ (W : Nat) (mk : Int64) (a1 a2 : Nat → Int32) (a3 : Nat → Int64) (a4 a5 a6 a7 a8 : Nat → Int32), ea_ok W mk a1 a2 a3 a4 a7 → ((¬ 4 ≤ p0 ∧ W = 4) ∨ (4 ≤ p0 ∧ p0 ≤ 64 ∧ p0 = nI W) ∨ (4 ≤ p0 ∧ ¬ p0 ≤ 64 ∧ W = 64)) → post (nI W, mk, a1, a2, a3, a4, a5, a6, a7, a8)) : wpX_init post mc ms (f0, mk) p0 := by
  unfold wpX_init
  dsimp only
  refine ⟨by omega, by omega, by omega, by omega, by omega, by omega, by omega, by omega, by omega, by omega, by omega, by omega, by omega, by omega, by omega, by omega, ?_⟩
  refine br_c (fun z => br_c (fun z2 => ?_) (fun z2 => ?_)) (fun z => br_t (by decide) ?_)
  · have h0 : ¬ p0 < 0 := fun t => by
      rw [Int32.lt_iff_toInt_lt] at t
      rw [Int32.le_iff_toInt_le] at z
      have e0 : (0 : Int32).toInt = 0 := by decide
      have e4 : (4 : Int32).toInt = 4 := by decide
      omega
    obtain ⟨W, hW, e⟩ := nI_of2 (M := 64) (n := 64) (by decide) h0 z2
    subst e
    have h4 : 4 ≤ W := (nI_leI (a := 4) (by decide) (by omega)).mp z
    exact ea_i92 h4 hW (fun mk a1 a2 a3 a4 a5 a6 a7 a8 h => H W mk a1 a2 a3 a4 a5 a6 a7 a8 h (Or.inr (Or.inl ⟨z, z2, rfl⟩)))
  · exact ea_i92 (W := 64) (by decide) (by decide) (fun mk a1 a2 a3 a4 a5 a6 a7 a8 h => H 64 mk a1 a2 a3 a4 a5 a6 a7 a8 h (Or.inr (Or.inr ⟨z, z2, rfl⟩)))
  · exact ea_i92 (W := 4) (by decide) (by decide) (fun mk a1 a2 a3 a4 a5 a6 a7 a8 h => H 4 mk a1 a2 a3 a4 a5 a6 a7 a8 h (Or.inl ⟨z, rfl⟩))

/-! topOf, infer, numberFor -/
theorem ea_topOf {post : Int32 → Prop} {w : Int32} {l t : Nat} (hl : l ≤ 3) (h1 : a1 l = 0) (h2 : a2 l = nI t) (hp : post (nI t)) : wpX_topOf post (w, mk, a1, a2, a3, a4, a5, a6, a7, a8) (nI l) := by
  unfold wpX_topOf
  dsimp only
  refine ⟨pk_in l 4 (by omega), pk_in l 4 (by omega), ?_⟩
  rw [nI_clamp (show l < 2 ^ 31 by omega), h1, h2, Int32.mul_zero, Int32.zero_add]
  exact hp
theorem ea_infer {post : Int32 → Prop} {W l m : Nat} (h4 : 4 ≤ W) (h64 : W ≤ 64) (hl : l ≤ 3) (hm : m ≤ 255) (h1 : a1 l = 0) (h2 : a2 l = 0) (hA : m ≤ 256 - W → post (nI m)) (hB : 256 - W < m → post (nI m - 256)) : wpX_infer post (nI W, mk, a1, a2, a3, a4, a5, a6, a7, a8) (nI l) (nI m) := by
  unfold wpX_infer
  dsimp only
  rw [nI_clamp (show l < 2 ^ 31 by omega), h1, h2]
  refine ⟨pk_in l 4 (by omega), nm_e ⟨pk_in l 4 (by omega), nm_e (br_t (ea_edge0 W (by omega) h4) ?_)⟩⟩
  refine pk_lt m (257 - W) (fun z => ?_) (fun z => nm_e ?_) rfl (ea_edge W (by omega))
  · rw [Int32.mul_zero, Int32.zero_add]
    exact hA (by omega)
  · rw [ea_back m (by omega)]
    exact hB (by omega)

/-! place -/
theorem ea_place0 {post : Int32 → Prop} {w x : Int32} {l : Nat} (hl : l ≤ 3) (h4 : a4 l = 0) (hp : post 0) : wpX_place post (w, mk, a1, a2, a3, a4, a5, a6, a7, a8) (nI l) x := by
  unfold wpX_place
  dsimp only
  rw [nI_clamp (show l < 2 ^ 31 by omega), h4]
  exact ⟨pk_in l 4 (by omega), nm_e ⟨1, br_f (by decide) (br_t (by decide) hp)⟩⟩
theorem ea_place1 {post : Int32 → Prop} {w x : Int32} {l : Nat} (hl : l ≤ 3) (h4 : a4 l = 1) (hx : x ≤ a5 (60 * l)) (hp : post 0) : wpX_place post (w, mk, a1, a2, a3, a4, a5, a6, a7, a8) (nI l) x := by
  unfold wpX_place
  dsimp only
  rw [nI_clamp (show l < 2 ^ 31 by omega), h4]
  refine ⟨pk_in l 4 (by omega), nm_e ⟨2, br_f (by decide) (br_f (by decide) (nm_r (show ((0 : Int32) + 1) >>> ((1 : Int32) &&& 31) = 0 from by decide) ⟨pk_in (60 * l + 0) 240 (by omega) (ea_lin 60 l 0), br_t ?_ (nm_e (br_f (by decide) (br_t (by decide) hp)))⟩))⟩⟩
  rw [ea_at hl]
  exact hx

/-! accept, judge, receive -/
/-- a line that has taken t alone -/
def ea_G (l t : Nat) (a1 a2 : Nat → Int32) (a3 : Nat → Int64) (a4 a5 : Nat → Int32) : Prop := a1 l = 0 ∧ a2 l = nI t ∧ a3 l = 1 ∧ a4 l = 1 ∧ a5 (60 * l) = nI t
theorem ea_a84 {post : St2 → Prop} {w : Int32} {l t : Nat} (hl : l ≤ 3) (h1 : a1 l = 0) (h2 : a2 l = nI t) (h3 : a3 l = 1) (h4 : a4 l = 0) (H : ∀ (b1 b2 : Nat → Int32) (b3 : Nat → Int64) (b4 b5 : Nat → Int32), ea_G l t b1 b2 b3 b4 b5 → post (w, mk, b1, b2, b3, b4, b5, a6, a7, a8)) : wX_accept_84 post (nI l) (nI t) w mk a1 a2 a3 a4 a5 a6 a7 a8 := by
  unfold wX_accept_84
  refine ea_place0 hl h4 ⟨pk_in l 4 (by omega), nm_r (show a4 (nI l).toNatClampNeg = 0 from by rw [nI_clamp (by omega), h4]) ⟨1, br_t (by decide) ?_⟩⟩
  refine ⟨pk_in (60 * l + 0) 240 (by omega) (ea_lin 60 l 0), nm_e ⟨pk_in l 4 (by omega), pk_in l 4 (by omega), nm_e (H _ _ _ _ _ ⟨h1, h2, h3, ?_, ?_⟩)⟩⟩
  · rw [nI_clamp (show l < 2 ^ 31 by omega), pk_us, h4]
    decide
  · rw [ea_at hl]
    exact pk_us
theorem ea_a42 {post : St2 → Prop} {w : Int32} {z : Int64} {l t : Nat} (hl : l ≤ 3) (ht : t ≤ 255) (hz : z = 1) (h4 : a4 l = 0) (H : ∀ (b1 b2 : Nat → Int32) (b3 : Nat → Int64) (b4 b5 : Nat → Int32), ea_G l t b1 b2 b3 b4 b5 → post (w, mk, b1, b2, b3, b4, b5, a6, a7, a8)) : wX_accept_42 post (nI l) (nI t) z (nI l) w mk a1 a2 a3 a4 a5 a6 a7 a8 := by
  unfold wX_accept_42
  have e := nI_clamp (show l < 2 ^ 31 by omega)
  refine ⟨pk_in l 4 (by omega), nm_e ⟨pk_in l 4 (by omega), nm_e ⟨pk_in l 4 (by omega), nm_e (ea_a84 hl ?_ ?_ ?_ h4 H)⟩⟩⟩
  · rw [e, pk_us, pk_shrN (show t < 2 ^ 31 by omega) ((8 : Int32) &&& 31) 8 (by decide), show t / 2 ^ 8 = 0 by omega]
    rfl
  · rw [e, pk_us, pk_andN (show t < 2 ^ 32 by omega) 8 (by decide), show t % 2 ^ 8 = t by omega]
  · rw [e, pk_uLs, hz]
theorem ea_accept {post : St2 → Prop} {w : Int32} {l t : Nat} (hl : l ≤ 3) (ht : t ≤ 255) (h0 : 1 ≤ t) (hk : (1 : Int64) &&& mk = 1) (h1 : a1 l = 0) (h2 : a2 l = 0) (h3 : a3 l = 0) (h4 : a4 l = 0) (H : ∀ (b1 b2 : Nat → Int32) (b3 : Nat → Int64) (b4 b5 : Nat → Int32), ea_G l t b1 b2 b3 b4 b5 → post (w, mk, b1, b2, b3, b4, b5, a6, a7, a8)) : wpX_accept post (w, mk, a1, a2, a3, a4, a5, a6, a7, a8) (nI l) (nI t) := by
  unfold wpX_accept
  dsimp only
  refine ea_topOf (t := 0) hl h1 h2 (nm_r (pk_sub (Nat.zero_le t)) (br_f (nI_nle (by omega) (by omega)) ?_))
  refine br_c (fun _ => ⟨pk_in l 4 (by omega), ea_a42 hl ht ?_ h4 H⟩) (fun _ => ea_a42 hl ht rfl h4 H)
  rw [nI_clamp (show l < 2 ^ 31 by omega), h3, Int64.zero_shiftLeft, show (0 : Int64) ||| 1 = 1 from by decide, hk]
theorem ea_77 {post : Int32 → St2 → Prop} {w : Int32} {l v : Nat} (hl : l ≤ 3) (hv : v ≤ 5) (H : ∀ b8, post (nI v) (w, mk, a1, a2, a3, a4, a5, a6, a7, b8)) : wX_judge_77 post (nI l) (nI v) w mk a1 a2 a3 a4 a5 a6 a7 a8 :=
  And.intro (pk_in (6 * l + v) 24 (by omega) (ea_lin 6 l v)) (And.intro (pk_in (6 * l + v) 24 (by omega) (ea_lin 6 l v)) (nm_e (H _)))
/-- what receive leaves of a fresh line: verdict v, and the line as it was but for the count of verdicts, or a line with t alone -/
theorem ea_judge {post : Int32 → St2 → Prop} {W l m : Nat} {p : Int32} (k : ea_ok W mk a1 a2 a3 a4 a7) (hl : l ≤ 3) (hm : m ≤ 255)
    (H3 : (m = 0 ∨ 256 - W < m) → ∀ b8, post 3 (nI W, mk, a1, a2, a3, a4, a5, a6, a7, b8))
    (H4 : 1 ≤ m → m ≤ 256 - W → p = 0 → ∀ b8, post 4 (nI W, mk, a1, a2, a3, a4, a5, a6, a7, b8))
    (H1 : 1 ≤ m → m ≤ 256 - W → ¬ p = 0 → ∀ b1 b2 b3 b4 b5 b8, ea_G l m b1 b2 b3 b4 b5 → post 1 (nI W, mk, b1, b2, b3, b4, b5, a6, a7, b8)) :
    wpX_judge post (nI W, mk, a1, a2, a3, a4, a5, a6, a7, a8) (nI l) (nI m) p := by
  obtain ⟨k4, k64, kk, kl⟩ := k
  obtain ⟨h1, h2, h3, h4, h7⟩ := kl l (by omega)
  have e := nI_clamp (show l < 2 ^ 31 by omega)
  have hd : a4 (nI l).toNatClampNeg < a7 (nI l).toNatClampNeg := by
    rw [e, h4, h7]
    decide
  unfold wpX_judge
  dsimp only
  refine ea_infer k4 k64 hl hm h1 h2 (fun z => ⟨pk_in l 4 (by omega), pk_in l 4 (by omega), br_t hd ?_⟩) (fun z => ⟨pk_in l 4 (by omega), pk_in l 4 (by omega), br_t hd (br_f (ea_early m (by omega)) (ea_77 (v := 3) hl (by omega) (H3 (Or.inr z))))⟩)
  refine pk_le 1 m (fun z0 => ?_) (fun z0 => ea_77 (v := 3) hl (by omega) (H3 (Or.inl (by omega))))
  unfold wpX_isSeen
  dsimp only
  refine ea_topOf (t := 0) hl h1 h2 (nm_e (br_t (ea_neg m (by omega) z0) (br_t rfl ?_)))
  refine br_c (fun hp => ea_77 (v := 4) hl (by omega) (H4 z0 z hp)) (fun hp => ?_)
  exact ea_accept hl hm z0 kk h1 h2 h3 h4 (fun b1 b2 b3 b4 b5 g => ea_77 (v := 1) hl (by omega) (fun b8 => H1 z0 z hp b1 b2 b3 b4 b5 b8 g))
theorem ea_rec {post : Int32 → St2 → Prop} {W l m : Nat} {p : Int32} (k : ea_ok W mk a1 a2 a3 a4 a7) (hl : l ≤ 3) (hm : m ≤ 255)
    (H3 : (m = 0 ∨ 256 - W < m) → ∀ b8, post 3 (nI W, mk, a1, a2, a3, a4, a5, a6, a7, b8))
    (H4 : 1 ≤ m → m ≤ 256 - W → p = 0 → ∀ b8, post 4 (nI W, mk, a1, a2, a3, a4, a5, a6, a7, b8))
    (H1 : 1 ≤ m → m ≤ 256 - W → ¬ p = 0 → ∀ b1 b2 b3 b4 b5 b8, ea_G l m b1 b2 b3 b4 b5 → post 1 (nI W, mk, b1, b2, b3, b4, b5, a6, a7, b8)) :
    wpX_receive post (nI W, mk, a1, a2, a3, a4, a5, a6, a7, a8) (nI l) (nI m) p := by
  unfold wpX_receive
  dsimp only
  refine ea_line_y hl (br_f (by decide) (ea_low_y hm (br_f (by decide) ?_)))
  refine br_c (fun z => ?_) (fun z => ?_)
  · unfold wX_receive_31
    exact ea_judge (p := 0) k hl hm (fun q b8 => H3 q b8) (fun q1 q2 q b8 => H4 q1 q2 z b8) (fun q1 q2 q b1 b2 b3 b4 b5 b8 g => absurd rfl q)
  · unfold wX_receive_31
    exact ea_judge (p := 1) k hl hm (fun q b8 => H3 q b8) (fun q1 q2 q b8 => absurd q (by decide)) (fun q1 q2 q b1 b2 b3 b4 b5 b8 g => H1 q1 q2 z b1 b2 b3 b4 b5 b8 g)
theorem ea_rec_n {post : Int32 → St2 → Prop} {w x y p : Int32} (hx : x < 0 ∨ 3 < x) (H : post (-1) (w, mk, a1, a2, a3, a4, a5, a6, a7, a8)) : wpX_receive post (w, mk, a1, a2, a3, a4, a5, a6, a7, a8) x y p := by
  unfold wpX_receive
  dsimp only
  exact ea_line_n hx (br_t rfl H)
theorem ea_rec_l {post : Int32 → St2 → Prop} {w y p : Int32} {l : Nat} (hl : l ≤ 3) (hy : y < 0 ∨ 255 < y) (H : post (-2) (w, mk, a1, a2, a3, a4, a5, a6, a7, a8)) : wpX_receive post (w, mk, a1, a2, a3, a4, a5, a6, a7, a8) (nI l) y p := by
  unfold wpX_receive
  dsimp only
  exact ea_line_y hl (br_f (by decide) (ea_low_n hy (br_t rfl H)))

/-! numberFor, top, has, lost -/
theorem ea_num_n {post : Int32 → Prop} {w x y : Int32} (hx : x < 0 ∨ 3 < x) (H : post (-1000)) : wpX_numberFor post (w, mk, a1, a2, a3, a4, a5, a6, a7, a8) x y := by
  unfold wpX_numberFor
  dsimp only
  exact ea_line_n hx (br_t rfl H)
theorem ea_num_l {post : Int32 → Prop} {w y : Int32} {l : Nat} (hl : l ≤ 3) (hy : y < 0 ∨ 255 < y) (H : post (-1000)) : wpX_numberFor post (w, mk, a1, a2, a3, a4, a5, a6, a7, a8) (nI l) y := by
  unfold wpX_numberFor
  dsimp only
  exact ea_line_y hl (br_f (by decide) (ea_low_n hy (br_t rfl H)))
theorem ea_num {post : Int32 → Prop} {W l m : Nat} (k : ea_ok W mk a1 a2 a3 a4 a7) (hl : l ≤ 3) (hm : m ≤ 255) (hA : m ≤ 256 - W → post (nI m)) (hB : 256 - W < m → post (nI m - 256)) : wpX_numberFor post (nI W, mk, a1, a2, a3, a4, a5, a6, a7, a8) (nI l) (nI m) := by
  obtain ⟨k4, k64, kk, kl⟩ := k
  obtain ⟨h1, h2, h3, h4, h7⟩ := kl l (by omega)
  unfold wpX_numberFor
  dsimp only
  exact ea_line_y hl (br_f (by decide) (ea_low_y hm (br_f (by decide) (ea_infer k4 k64 hl hm h1 h2 hA hB))))
theorem ea_top_n {post : Int32 → Prop} {w x : Int32} (hx : x < 0 ∨ 3 < x) (H : post (-1)) : wpX_top post (w, mk, a1, a2, a3, a4, a5, a6, a7, a8) x := by
  unfold wpX_top
  dsimp only
  exact ea_line_n hx (br_t rfl H)
theorem ea_top {post : Int32 → Prop} {w : Int32} {l t : Nat} (hl : l ≤ 3) (h1 : a1 l = 0) (h2 : a2 l = nI t) (H : post (nI t)) : wpX_top post (w, mk, a1, a2, a3, a4, a5, a6, a7, a8) (nI l) := by
  unfold wpX_top
  dsimp only
  exact ea_line_y hl (br_f (by decide) (ea_topOf hl h1 h2 H))
theorem ea_has_n {post : Int32 → Prop} {w x y : Int32} (hx : x < 0 ∨ 3 < x) (H : post (-1)) : wpX_has post (w, mk, a1, a2, a3, a4, a5, a6, a7, a8) x y := by
  unfold wpX_has
  dsimp only
  exact ea_line_n hx (br_t rfl H)
theorem ea_has_0 {post : Int32 → Prop} {w y : Int32} {l : Nat} (hl : l ≤ 3) (h1 : a1 l = 0) (h2 : a2 l = 0) (H : post 0) : wpX_has post (w, mk, a1, a2, a3, a4, a5, a6, a7, a8) (nI l) y := by
  unfold wpX_has
  dsimp only
  refine ea_line_y hl (br_f (by decide) (ea_topOf (t := 0) hl h1 h2 (br_c (fun _ => H) (fun z => br_f (fun z2 => z ?_) H))))
  rw [Int32.le_iff_toInt_le] at z2
  rw [Int32.lt_iff_toInt_lt]
  have e0 : (nI 0).toInt = 0 := by decide
  have e1 : (1 : Int32).toInt = 1 := by decide
  omega
theorem ea_has_1 {post : Int32 → Prop} {W : Nat} {y : Int32} {l t : Nat} (h4 : 4 ≤ W) (h64 : W ≤ 64) (hl : l ≤ 3) (ht : t ≤ 255) (h0 : 1 ≤ t) (g : ea_G l t a1 a2 a3 a4 a5) (Hy : y = nI t → post 1) (Hn : ¬ y = nI t → post 0) : wpX_has post (nI W, mk, a1, a2, a3, a4, a5, a6, a7, a8) (nI l) y := by
  obtain ⟨g1, g2, g3, g4, g5⟩ := g
  have e := nI_clamp (show l < 2 ^ 31 by omega)
  unfold wpX_has
  dsimp only
  refine ea_line_y hl (br_f (by decide) (ea_topOf hl g1 g2 (br_c (fun z => Hn ?_) (fun z => br_c (fun z2 => ?_) (fun z2 => Hn ?_)))))
  · intro q
    subst q
    exact nI_nlt (b := 1) h0 (by omega) z
  · have z0 : ¬ y < 0 := fun q => by
      rw [Int32.lt_iff_toInt_lt] at q z
      have e0 : (0 : Int32).toInt = 0 := by decide
      have e1 : (1 : Int32).toInt = 1 := by decide
      omega
    obtain ⟨j, hj, ej⟩ := nI_of2 (nI_toInt (show t < 2 ^ 31 by omega)) z0 z2
    subst ej
    rw [pk_sub hj]
    refine pk_le W (t - j) (fun q => ?_) (fun q => ⟨pk_in l 4 (by omega), ?_⟩)
    · have hn : ¬ nI j = nI t := fun w => by
        rw [nI_eq (by omega) (by omega)] at w
        omega
      refine ea_place1 hl g4 (by rw [g5]; exact z2) ⟨pk_in l 4 (by omega), ?_⟩
      rw [e, g4, ea_at hl, g5]
      exact br_f (by decide) ⟨pk_in (60 * l + 0) 240 (by omega) (ea_lin 60 l 0), br_f (fun w => hn w.symm) (Hn hn)⟩
    · rw [e, g3, ea_bit (t - j) (by omega)]
      by_cases q2 : t - j = 0
      · rw [if_pos q2]
        exact Hy (by rw [show j = t by omega])
      · rw [if_neg q2]
        refine Hn (fun w => ?_)
        rw [nI_eq (by omega) (by omega)] at w
        omega
  · intro q
    subst q
    exact z2 (nI_le (Nat.le_refl t) (by omega))
theorem ea_lost_n {post : Int32 → Prop} {w x : Int32} (hx : x < 0 ∨ 3 < x) (H : post (-1)) : wpX_lost post (w, mk, a1, a2, a3, a4, a5, a6, a7, a8) x := by
  unfold wpX_lost
  dsimp only
  exact ea_line_n hx (br_t rfl H)
theorem ea_lost_0 {post : Int32 → Prop} {W l : Nat} (h4 : 4 ≤ W) (h64 : W ≤ 64) (hl : l ≤ 3) (h1 : a1 l = 0) (h2 : a2 l = 0) (H : post 0) : wpX_lost post (nI W, mk, a1, a2, a3, a4, a5, a6, a7, a8) (nI l) := by
  unfold wpX_lost
  dsimp only
  exact ea_line_y hl (br_f (by decide) (ea_topOf (t := 0) hl h1 h2 (nm_e (br_f (ea_lostN W (by omega) h4) H))))
theorem ea_lost_1 {post : Int32 → Prop} {W l t : Nat} (h4 : 4 ≤ W) (h64 : W ≤ 64) (hl : l ≤ 3) (ht : t ≤ 255) (g : ea_G l t a1 a2 a3 a4 a5) (HA : t ≤ W → post 0) (HB : W < t → post (nI t - nI W)) : wpX_lost post (nI W, mk, a1, a2, a3, a4, a5, a6, a7, a8) (nI l) := by
  obtain ⟨g1, g2, g3, g4, g5⟩ := g
  unfold wpX_lost
  dsimp only
  refine ea_line_y hl (br_f (by decide) (ea_topOf hl g1 g2 ?_))
  by_cases q : W < t
  · refine nm_r (pk_sub (show W ≤ t by omega)) (br_t (nI_lt (a := 0) (by omega) (by omega)) (ea_place1 hl g4 ?_ ?_))
    · rw [g5, nI_1]
      exact nI_le (by omega) (by omega)
    · rw [Int32.sub_zero, ← pk_sub (show W ≤ t by omega)]
      exact HB q
  · refine nm_e (br_f (fun z => ?_) (HA (by omega)))
    rw [Int32.lt_iff_toInt_lt, pk_sub_toInt (by omega) (by omega)] at z
    have e0 : (0 : Int32).toInt = 0 := by decide
    omega
end
end
section
section
variable {post : Int32 → St0 → Prop} {mc ms kc ks : Nat} {mk : Int64} {a1 a2 a4 a5 a6 a7 a8 : Nat → Int32} {a3 : Nat → Int64}

/-! the tail: top, has, lost -/
theorem ea_T0 {x1 x4 x6 x9 w : Int32} (hx : x1 < 0 ∨ 3 < x1) (h : post 1 ()) : wL_lawOf_205 post mc ms x1 x4 x6 0 x9 kc ks w mk a1 a2 a3 a4 a5 a6 a7 a8 := by
  unfold wL_lawOf_205 wL_lawOf_206
  refine ea_top_n hx (br_t rfl ?_)
  unfold wL_lawOf_234
  refine br_t rfl (ea_has_n hx (br_t rfl ?_))
  unfold wL_lawOf_273
  refine br_t rfl (br_t rfl ?_)
  unfold wL_lawOf_298 wL_lawOf_299
  refine ea_lost_n hx (br_t rfl ?_)
  exact br_t rfl h
theorem ea_T1 {W l : Nat} {x4 x9 : Int32} (h4 : 4 ≤ W) (h64 : W ≤ 64) (hl : l ≤ 3) (h1 : a1 l = 0) (h2 : a2 l = 0) (h : post 1 ()) : wL_lawOf_205 post mc ms (nI l) x4 (nI W) 1 x9 kc ks (nI W) mk a1 a2 a3 a4 a5 a6 a7 a8 := by
  unfold wL_lawOf_205 wL_lawOf_206
  refine ea_top (t := 0) hl h1 h2 (br_f (by decide) (br_t rfl ?_))
  unfold wL_lawOf_234
  refine br_t rfl (ea_has_0 hl h1 h2 (br_f (by decide) (br_t rfl ?_)))
  unfold wL_lawOf_268 wL_lawOf_273
  refine br_t rfl (br_t rfl ?_)
  unfold wL_lawOf_298 wL_lawOf_299
  refine ea_lost_0 h4 h64 hl h1 h2 (br_f (by decide) ?_)
  exact br_t rfl h
theorem ea_T2e {W l t : Nat} (h4 : 4 ≤ W) (h64 : W ≤ 64) (hl : l ≤ 3) (ht : t ≤ 255) (g : ea_G l t a1 a2 a3 a4 a5) {z : Int32} (h : post 1 ()) : wL_lawOf_273 post mc ms (nI l) (nI W) 1 (nI t) 1 z z kc ks (nI W) mk a1 a2 a3 a4 a5 a6 a7 a8 := by
  unfold wL_lawOf_273
  refine br_t rfl (br_f (by decide) (pk_le t W (fun q => ?_) (fun q => ?_)))
  · unfold wL_lawOf_298 wL_lawOf_299
    exact ea_lost_1 h4 h64 hl ht g (fun _ => br_f (by decide) (br_t rfl h)) (fun q2 => absurd q2 (by omega))
  · unfold wL_lawOf_299
    exact ea_lost_1 h4 h64 hl ht g (fun q2 => absurd q2 (by omega)) (fun _ => br_f (by decide) (br_t rfl h))
theorem ea_T2 {W l t : Nat} {x4 : Int32} (h4 : 4 ≤ W) (h64 : W ≤ 64) (hl : l ≤ 3) (ht : t ≤ 255) (h0 : 1 ≤ t) (g : ea_G l t a1 a2 a3 a4 a5) (h : post 1 ()) : wL_lawOf_206 post mc ms (nI l) x4 (nI W) 1 (nI t) 1 kc ks (nI W) mk a1 a2 a3 a4 a5 a6 a7 a8 := by
  unfold wL_lawOf_206
  refine ea_top hl g.1 g.2.1 (br_f (by decide) (br_f (by decide) ?_))
  unfold wL_lawOf_234
  refine br_t rfl (ea_has_1 h4 h64 hl ht h0 g (fun q => ?_) (fun q => ?_))
  · exact br_f (by decide) (br_f (by decide) (br_t q (ea_T2e h4 h64 hl ht g h)))
  · refine br_f (by decide) (br_f (by decide) (br_f q ?_))
    unfold wL_lawOf_268
    exact ea_T2e h4 h64 hl ht g h

/-! the line is not named -/
theorem ea_N149 {x1 x2 x3 x4 x6 x8 x9 z0 w : Int32} (hx : x1 < 0 ∨ 3 < x1) (h : post 1 ()) : wL_lawOf_149 post mc ms x1 x2 x3 x4 x6 0 x8 x9 z0 kc ks w mk a1 a2 a3 a4 a5 a6 a7 a8 := by
  unfold wL_lawOf_149
  refine ea_rec_n hx (br_t rfl ?_)
  unfold wL_lawOf_180
  exact br_t rfl (br_t rfl (ea_T0 hx h))
theorem ea_N98 {x1 x2 x3 x4 x6 x8 z0 w : Int32} (hx : x1 < 0 ∨ 3 < x1) (h : post 1 ()) : wL_lawOf_98 post mc ms x1 x2 x3 x4 x6 0 x8 z0 kc ks w mk a1 a2 a3 a4 a5 a6 a7 a8 := by
  unfold wL_lawOf_98
  refine ea_num_n hx (br_t rfl ?_)
  unfold wL_lawOf_122 wL_lawOf_125
  exact br_t rfl (br_c (fun _ => br_c (fun _ => ea_N149 hx h) (fun _ => ea_N149 hx h)) (fun _ => ea_N149 hx h))
theorem ea_N77 {x1 x2 x3 x4 x6 z0 w : Int32} (hx : x1 < 0 ∨ 3 < x1) (h : post 1 ()) : wL_lawOf_77 post mc ms x1 x2 x3 x4 x6 0 z0 kc ks w mk a1 a2 a3 a4 a5 a6 a7 a8 := by
  unfold wL_lawOf_77
  exact br_c (fun _ => ea_N98 hx h) (fun _ => ea_N98 hx h)
theorem ea_N58 {x1 x2 x3 x4 x6 w : Int32} (hx : x1 < 0 ∨ 3 < x1) (h : post 1 ()) : wL_lawOf_58 post mc ms x1 x2 x3 x4 x6 kc ks w mk a1 a2 a3 a4 a5 a6 a7 a8 := by
  unfold wL_lawOf_58 wL_lawOf_59 wL_lawOf_76
  exact br_c (fun _ => ea_N77 hx h) (fun _ => br_c (fun _ => ea_N77 hx h) (fun _ => ea_N77 hx h))

/-! the line is named, the low part is none -/
theorem ea_Q149 {W l : Nat} {x2 x3 x4 x9 z0 : Int32} (k : ea_ok W mk a1 a2 a3 a4 a7) (hl : l ≤ 3) (hy : x2 < 0 ∨ 255 < x2) (h : post 1 ()) : wL_lawOf_149 post mc ms (nI l) x2 x3 x4 (nI W) 1 0 x9 z0 kc ks (nI W) mk a1 a2 a3 a4 a5 a6 a7 a8 := by
  obtain ⟨k4, k64, kk, kl⟩ := k
  obtain ⟨h1, h2, h3, h4, h7⟩ := kl l (by omega)
  unfold wL_lawOf_149
  refine ea_rec_l hl hy (br_f (by decide) (br_t rfl ?_))
  unfold wL_lawOf_180
  exact br_t rfl (br_f (by decide) (br_t rfl (ea_T1 k4 k64 hl h1 h2 h)))
theorem ea_Q98 {W l : Nat} {x2 x3 x4 z0 : Int32} (k : ea_ok W mk a1 a2 a3 a4 a7) (hl : l ≤ 3) (hy : x2 < 0 ∨ 255 < x2) (h : post 1 ()) : wL_lawOf_98 post mc ms (nI l) x2 x3 x4 (nI W) 1 0 z0 kc ks (nI W) mk a1 a2 a3 a4 a5 a6 a7 a8 := by
  unfold wL_lawOf_98
  refine ea_num_l hl hy (br_f (by decide) (br_t rfl ?_))
  unfold wL_lawOf_122 wL_lawOf_125
  exact br_t rfl (br_c (fun _ => br_c (fun _ => ea_Q149 k hl hy h) (fun _ => ea_Q149 k hl hy h)) (fun _ => ea_Q149 k hl hy h))
theorem ea_Q76 {W l : Nat} {x2 x3 x4 : Int32} (k : ea_ok W mk a1 a2 a3 a4 a7) (hl : l ≤ 3) (hy : x2 < 0 ∨ 255 < x2) (h : post 1 ()) : wL_lawOf_76 post mc ms (nI l) x2 x3 x4 (nI W) 1 kc ks (nI W) mk a1 a2 a3 a4 a5 a6 a7 a8 := by
  unfold wL_lawOf_76 wL_lawOf_77
  exact br_c (fun _ => ea_Q98 k hl hy h) (fun _ => ea_Q98 k hl hy h)

/-! both are named -/
theorem ea_P3 {W l m : Nat} {x3 x4 x9 : Int32} (k : ea_ok W mk a1 a2 a3 a4 a7) (hl : l ≤ 3) (hm : m ≤ 255) (hs : m = 0 ∨ 256 - W < m) (h : post 1 ()) : wL_lawOf_149 post mc ms (nI l) (nI m) x3 x4 (nI W) 1 1 x9 3 kc ks (nI W) mk a1 a2 a3 a4 a5 a6 a7 a8 := by
  have k' := k
  obtain ⟨k4, k64, kk, kl⟩ := k'
  obtain ⟨h1, h2, h3, h4, h7⟩ := kl l (by omega)
  unfold wL_lawOf_149
  refine ea_rec k hl hm (fun q b8 => br_f (by decide) (br_f (by decide) ?_)) (fun q1 q2 => absurd hs (by omega)) (fun q1 q2 => absurd hs (by omega))
  unfold wL_lawOf_180
  exact br_t rfl (br_f (by decide) (br_f (by decide) (br_f (by decide) (ea_T1 k4 k64 hl h1 h2 h))))
theorem ea_P4 {W l m : Nat} {x3 x4 x9 : Int32} (k : ea_ok W mk a1 a2 a3 a4 a7) (hl : l ≤ 3) (hm : m ≤ 255) (h0 : 1 ≤ m) (hs : m ≤ 256 - W) (hp : x3 = 0) (h : post 1 ()) : wL_lawOf_149 post mc ms (nI l) (nI m) x3 x4 (nI W) 1 1 x9 4 kc ks (nI W) mk a1 a2 a3 a4 a5 a6 a7 a8 := by
  have k' := k
  obtain ⟨k4, k64, kk, kl⟩ := k'
  obtain ⟨h1, h2, h3, h4, h7⟩ := kl l (by omega)
  unfold wL_lawOf_149
  refine ea_rec k hl hm (fun q => absurd q (by omega)) (fun q1 q2 q b8 => br_f (by decide) (br_f (by decide) ?_)) (fun q1 q2 q => absurd hp q)
  unfold wL_lawOf_180
  exact br_t rfl (br_f (by decide) (br_f (by decide) (br_f (by decide) (ea_T1 k4 k64 hl h1 h2 h))))
theorem ea_P1 {W l m : Nat} {x3 x4 : Int32} (k : ea_ok W mk a1 a2 a3 a4 a7) (hl : l ≤ 3) (hm : m ≤ 255) (h0 : 1 ≤ m) (hs : m ≤ 256 - W) (hp : ¬ x3 = 0) (h : post 1 ()) : wL_lawOf_149 post mc ms (nI l) (nI m) x3 x4 (nI W) 1 1 (nI m) 1 kc ks (nI W) mk a1 a2 a3 a4 a5 a6 a7 a8 := by
  have k' := k
  obtain ⟨k4, k64, kk, kl⟩ := k'
  unfold wL_lawOf_149
  refine ea_rec k hl hm (fun q => absurd q (by omega)) (fun q1 q2 q => absurd q hp) (fun q1 q2 q b1 b2 b3 b4 b5 b8 g => br_f (by decide) (br_f (by decide) ?_))
  unfold wL_lawOf_180
  exact br_t rfl (br_f (by decide) (br_f (by decide) (br_t rfl (ea_T2 k4 k64 hl hm h0 g h))))
theorem ea_P77 {W l m : Nat} {x3 x4 : Int32} (k : ea_ok W mk a1 a2 a3 a4 a7) (hl : l ≤ 3) (hm : m ≤ 255) (h : post 1 ()) : wL_lawOf_77 post mc ms (nI l) (nI m) x3 x4 (nI W) 1 1 kc ks (nI W) mk a1 a2 a3 a4 a5 a6 a7 a8 := by
  have k' := k
  obtain ⟨k4, k64, kk, kl⟩ := k'
  unfold wL_lawOf_77
  refine pk_le m (256 - W) (fun z => ?_) (fun z => ?_) rfl (pk_sub (a := 256) (by omega))
  · unfold wL_lawOf_98
    refine ea_num k hl hm (fun _ => br_f (by decide) (br_f (by decide) ?_)) (fun q => absurd q (by omega))
    unfold wL_lawOf_125
    refine br_t rfl (pk_le 1 m (fun z0 => ?_) (fun z0 => ea_P3 k hl hm (Or.inl (by omega)) h))
    exact br_c (fun q => ea_P4 k hl hm z0 z q h) (fun q => ea_P1 k hl hm z0 z q h)
  · unfold wL_lawOf_98
    refine ea_num k hl hm (fun q => absurd q (by omega)) (fun _ => br_f (by decide) (br_f (by decide) ?_))
    unfold wL_lawOf_125
    exact br_t rfl (br_f (ea_early m (by omega)) (ea_P3 k hl hm (Or.inr z) h))

/-! the law -/
theorem ea_33 {W : Nat} {x1 x2 x3 x4 : Int32} (k : ea_ok W mk a1 a2 a3 a4 a7) (h : post 1 ()) : wL_lawOf_33 post mc ms x1 x2 x3 x4 (nI W) kc ks (nI W) mk a1 a2 a3 a4 a5 a6 a7 a8 := by
  unfold wL_lawOf_33 wpX_window
  dsimp only
  refine br_t rfl (br_c (fun z => ea_N58 (Or.inl z) h) (fun z => br_c (fun z2 => ea_N58 (Or.inr z2) h) (fun z2 => ?_)))
  obtain ⟨l, hl, e⟩ := nI_of2 (M := 3) (n := 3) (by decide) z (Int32.not_lt.mp z2)
  subst e
  unfold wL_lawOf_59
  refine br_c (fun y => ea_Q76 k hl (Or.inl y) h) (fun y => br_c (fun y2 => ea_Q76 k hl (Or.inr y2) h) (fun y2 => ?_))
  obtain ⟨m, hm, e⟩ := nI_of2 (M := 255) (n := 255) (by decide) y (Int32.not_lt.mp y2)
  subst e
  exact ea_P77 k hl hm h
theorem ea_lawOf {p0 p1 p2 p3 p4 : Int32} (h : post 1 ()) : wpL_lawOf post 9 298 () p0 p1 p2 p3 p4 := by
  unfold wpL_lawOf
  refine ⟨by decide, by decide, 8, 288, by decide, by decide, ea_init (by decide) (by decide) (fun W mk a1 a2 a3 a4 a5 a6 a7 a8 k hW => ?_)⟩
  dsimp only
  unfold wL_lawOf_22
  rcases hW with ⟨z, e⟩ | ⟨z, z2, e⟩ | ⟨z, z2, e⟩
  · subst e
    exact br_f z (br_t (by decide) (ea_33 k h))
  · subst e
    exact br_t z (br_t z2 (ea_33 k h))
  · subst e
    exact br_t z (br_f z2 (ea_33 k h))
end
theorem ea_cell {post : Int32 → Prop} {L : Nat} {xs : Nat → Int32} {x : Int32} (j : Nat) (hL : L ≤ 5) (hj : j ≤ 5) (e : x = nI j) (H : ∀ r, post r) : wpL_cellAt post L xs () x :=
  pk_le L j (fun _ => H 0) (fun z => ⟨pk_in j L z e, H _⟩) rfl e
theorem i_vc (xs : Nat → Int32) (L : Nat) (hL : L ≤ 5) : wpL_law (fun r => r = 1) L xs :=
  ea_cell 0 hL (by decide) rfl (fun r1 => ea_cell 1 hL (by decide) rfl (fun r2 => ea_cell 2 hL (by decide) rfl (fun r3 => ea_cell 3 hL (by decide) rfl (fun r4 => ea_cell 4 hL (by decide) rfl (fun r5 => ⟨9, 298, by decide, by decide, ea_lawOf rfl⟩)))))
end
