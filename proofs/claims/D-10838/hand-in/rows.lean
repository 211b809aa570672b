section
/-! masks: what lies inside 2^k - 1 (the rows sk_b .. sk_0 are turned from laws/BITS.to-paste) -/
def sk_b (x : Int32) (i : Nat) : Bool := x.toBitVec.getLsbD i
theorem sk_ext {x y : Int32} (h : ∀ i, i < 32 → sk_b x i = sk_b y i) : x = y := Int32.toBitVec_inj.mp (BitVec.eq_of_getLsbD_eq (fun i hi => h i hi))
theorem sk_or (x y : Int32) (i : Nat) : sk_b (x ||| y) i = (sk_b x i || sk_b y i) := by unfold sk_b; rw [Int32.toBitVec_or, BitVec.getLsbD_or]
theorem sk_and (x y : Int32) (i : Nat) : sk_b (x &&& y) i = (sk_b x i && sk_b y i) := by unfold sk_b; rw [Int32.toBitVec_and, BitVec.getLsbD_and]
theorem sk_xor (x y : Int32) (i : Nat) : sk_b (x ^^^ y) i = (sk_b x i ^^ sk_b y i) := by unfold sk_b; rw [Int32.toBitVec_xor, BitVec.getLsbD_xor]
theorem sk_m1 : ∀ i, i < 32 → sk_b (-1) i = true := by decide +kernel
theorem sk_0 (i : Nat) : sk_b 0 i = false := BitVec.getLsbD_zero
/-- what doesn't meet a mask's complement lies inside the mask -/
theorem sk_sub {x m : Int32} (h : x &&& (m ^^^ (-1)) = 0) : x &&& m = x := by
  apply sk_ext
  intro i hi
  have e : sk_b (x &&& (m ^^^ (-1))) i = sk_b 0 i := by rw [h]
  rw [sk_and, sk_xor, sk_m1 i hi, sk_0] at e
  rw [sk_and]
  revert e
  cases sk_b x i <;> cases sk_b m i <;> decide
theorem sk_or0 {x y : Int32} : x ||| y = 0 ↔ x = 0 ∧ y = 0 := by
  constructor
  · intro h
    have e : ∀ i, (sk_b x i || sk_b y i) = false := by
      intro i
      rw [← sk_or, h, sk_0]
    exact ⟨sk_ext (fun i _ => by rw [sk_0]; exact (Bool.or_eq_false_iff.mp (e i)).1), sk_ext (fun i _ => by rw [sk_0]; exact (Bool.or_eq_false_iff.mp (e i)).2)⟩
  · intro h
    rw [h.1, h.2]
    decide
/-- y holds no place beyond V variables -/
def sk_P (V y : Int32) : Prop := y &&& ((((1 : Int32) <<< (V &&& 31)) - 1) ^^^ (-1)) = 0
theorem sk_mask : ∀ k, k < 6 → (((1 : Int32) <<< (nI k &&& 31)) - 1) = nI (2 ^ k - 1) := by decide +kernel
theorem sk_mtn : ∀ k, k < 6 → (nI (2 ^ k - 1)).toBitVec.toNat = 2 ^ k - 1 := by decide +kernel
theorem sk_low : ∀ k, k < 6 → ∀ j, j < 2 ^ k → nI j &&& ((((1 : Int32) <<< (nI k &&& 31)) - 1) ^^^ (-1)) = 0 := by decide +kernel
theorem sk_byte : ∀ j, j < 32 → (nI j).toInt8.toInt32 = nI j := by decide +kernel
theorem sk_p32 {k : Nat} (hk : k < 6) : 1 ≤ 2 ^ k ∧ 2 ^ k ≤ 32 := by
  have h := Nat.pow_le_pow_right (n := 2) (by decide) (show k ≤ 5 by omega)
  have h0 := Nat.two_pow_pos k
  omega
theorem sk_Pj {k : Nat} {V y : Int32} (hk : k < 6) (hV : V = nI k) (h : sk_P V y) : ∃ j, j < 2 ^ k ∧ y = nI j := by
  unfold sk_P at h
  have e := sk_sub h
  rw [hV, sk_mask k hk] at e
  obtain ⟨j, hj, ej⟩ := pk_andE y k (sk_mtn k hk)
  exact ⟨j, hj, e.symm.trans ej⟩
/-- the class's check is the law's: 0 <= y <= 2^V - 1 -/
theorem sk_Prng {k : Nat} {V y : Int32} (hk : k < 6) (hV : V = nI k) : sk_P V y ↔ (¬ y < 0 ∧ ¬ ((1 : Int32) <<< (V &&& 31)) - 1 < y) := by
  have hp := sk_p32 hk
  constructor
  · intro h
    obtain ⟨j, hj, rfl⟩ := sk_Pj hk hV h
    rw [hV, sk_mask k hk]
    exact ⟨nI_pos (by omega), nI_nlt (by omega) (by omega)⟩
  · intro h
    obtain ⟨j, hj, rfl⟩ := nI_of h.1
    have h2 := h.2
    rw [hV, sk_mask k hk, nI_ltI (by omega) hj] at h2
    unfold sk_P
    rw [hV]
    exact sk_low k hk j (by omega)
theorem sk_Pbyte {k : Nat} {V y : Int32} (hk : k < 6) (hV : V = nI k) (h : sk_P V y) : y.toInt8.toInt32 = y := by
  obtain ⟨j, hj, rfl⟩ := sk_Pj hk hV h
  have hp := sk_p32 hk
  exact sk_byte j (by omega)
/-- the clause's value is zero exactly when the law's two meets are empty -/
theorem sk_C {x p q : Int32} : ((p &&& x) ||| (q &&& (x ^^^ (-1)))) = 0 ↔ ((x &&& p) = 0 ∧ ((x ^^^ (-1)) &&& q) = 0) := by
  rw [sk_or0, Int32.and_comm p x, Int32.and_comm q]
theorem sk_vars {n : Int32} (h1 : 1 ≤ n) (h5 : n ≤ 5) : ∃ k : Nat, k < 6 ∧ n = nI k := by
  have h0 : ¬ n < 0 := by
    rw [Int32.le_iff_toInt_le] at h1
    rw [Int32.lt_iff_toInt_lt]
    have a : (1 : Int32).toInt = 1 := by decide
    have b : (0 : Int32).toInt = 0 := by decide
    omega
  obtain ⟨k, hk, e⟩ := nI_of2 (M := 5) (n := 5) (by decide) h0 h5
  exact ⟨k, by omega, e⟩
end
section
/-! one lemma a method -/
theorem sk_isT {post : Int32 → Prop} {u : St0} {f : Int32} (hf : f = 0 ∨ f = 1) (h : post 1) : wpX_isFormula post u f := by
  unfold wpX_isFormula
  exact ⟨fun _ => h, fun n0 => ⟨fun _ => h, fun n1 => absurd hf (fun z => z.elim n0 n1)⟩⟩
theorem sk_isF {post : Int32 → Prop} {u : St0} {f : Int32} (hf : ¬ (f = 0 ∨ f = 1)) (h : post 0) : wpX_isFormula post u f := by
  unfold wpX_isFormula
  exact ⟨fun z => absurd (Or.inl z) hf, fun _ => ⟨fun z => absurd (Or.inr z) hf, fun _ => h⟩⟩
theorem sk_in2 {f : Int32} (hf : f = 0 ∨ f = 1) : vp_in f 2 := by
  rcases hf with rfl | rfl
  · exact vp_in_iff.mpr (by decide)
  · exact vp_in_iff.mpr (by decide)
theorem sk_in12 {f : Int32} (hf : f = 0 ∨ f = 1) : vp_in (f * 6 + 0) 12 := by
  rcases hf with rfl | rfl
  · exact vp_in_iff.mpr (by decide)
  · exact vp_in_iff.mpr (by decide)
section
variable {V m s g r t : Int32} {a1 a2 a3 a4 a5 a6 a7 a8 : Nat → Int32}
theorem sk_beT {post : Int32 → Prop} {y : Int32} (hy : sk_P V y) (h : post 0) : wpX_beyond post (V, m, s, g, r, t, a1, a2, a3, a4, a5, a6, a7, a8) y := by
  unfold wpX_beyond
  exact br_t hy h
theorem sk_beF {post : Int32 → Prop} {y : Int32} (hy : ¬ sk_P V y) (h : post 1) : wpX_beyond post (V, m, s, g, r, t, a1, a2, a3, a4, a5, a6, a7, a8) y := by
  unfold wpX_beyond
  exact br_f hy h
theorem sk_st {post : Int32 → Prop} (h : post s) : wpX_status post (V, m, s, g, r, t, a1, a2, a3, a4, a5, a6, a7, a8) := by
  unfold wpX_status
  exact h
theorem sk_ms {post : Int32 → Prop} {y : Int32} (h : post (-1)) : wpX_message post (V, m, 0, g, r, t, a1, a2, a3, a4, a5, a6, a7, a8) y := by
  unfold wpX_message
  exact br_t rfl h
theorem sk_rn {post : Int32 → Prop} (h : post (-1)) : wpX_running post (V, m, 0, g, r, t, a1, a2, a3, a4, a5, a6, a7, a8) := by
  unfold wpX_running
  exact br_t rfl h
theorem sk_ch {post : Int32 → St2 → Prop} {y : Int32} (h : post (-1) (V, m, 0, g, r, t, a1, a2, a3, a4, a5, a6, a7, a8)) : wpX_challenge post (V, m, 0, g, r, t, a1, a2, a3, a4, a5, a6, a7, a8) y := by
  unfold wpX_challenge
  exact br_f (by decide) h
/-- value's loop past its last clause -/
theorem sk_vE {post : Int32 → Prop} {f x c : Int32} {n : Nat} (hf : f = 0 ∨ f = 1) (hc : a3 f.toNatClampNeg ≤ c) (h : post 1) : wX_value_2 post f x V m s g r t a1 a2 a3 a4 a5 a6 a7 a8 (n + 1) c := by
  exact And.intro (sk_in2 hf) (br_t hc h)
/-- a formula without clauses -/
theorem sk_va0 {post : Int32 → Prop} {f x : Int32} (hf : f = 0 ∨ f = 1) (hc : a3 f.toNatClampNeg = 0) (h : post 1) : wpX_value post (V, m, s, g, r, t, a1, a2, a3, a4, a5, a6, a7, a8) f x := by
  unfold wpX_value
  exact ⟨0 + 1, sk_vE hf (by rw [hc]; decide) h⟩
/-- value's loop at the only clause -/
theorem sk_vS {post : Int32 → Prop} {f x p q : Int32} {n : Nat} (hf : f = 0 ∨ f = 1) (hc : a3 f.toNatClampNeg = 1) (hp : a1 (f * 6 + 0).toNatClampNeg = p) (hq : a2 (f * 6 + 0).toNatClampNeg = q)
    (h0 : ((x &&& p) = 0 ∧ ((x ^^^ (-1)) &&& q) = 0) → post 0) (h1 : ¬ ((x &&& p) = 0 ∧ ((x ^^^ (-1)) &&& q) = 0) → post 1) : wX_value_2 post f x V m s g r t a1 a2 a3 a4 a5 a6 a7 a8 (n + 1 + 1) 0 := by
  refine And.intro (sk_in2 hf) (br_f (by rw [hc]; decide) (nm_e ⟨sk_in12 hf, sk_in12 hf, ?_⟩))
  rw [hp, hq]
  exact ek_if sk_C h0 (fun z => nm_r (e' := (1 : Int32)) (by decide) (sk_vE hf (by rw [hc]; decide) (h1 z)))
/-- a formula of one clause -/
theorem sk_va1 {post : Int32 → Prop} {f x p q : Int32} (hf : f = 0 ∨ f = 1) (hc : a3 f.toNatClampNeg = 1) (hp : a1 (f * 6 + 0).toNatClampNeg = p) (hq : a2 (f * 6 + 0).toNatClampNeg = q)
    (h0 : ((x &&& p) = 0 ∧ ((x ^^^ (-1)) &&& q) = 0) → post 0) (h1 : ¬ ((x &&& p) = 0 ∧ ((x ^^^ (-1)) &&& q) = 0) → post 1) : wpX_value post (V, m, s, g, r, t, a1, a2, a3, a4, a5, a6, a7, a8) f x := by
  unfold wpX_value
  exact ⟨0 + 1 + 1, sk_vS hf hc hp hq h0 h1⟩
end
/-- the law's 'good' -/
def sk_G (V f p q : Int32) : Prop := (f = 0 ∨ f = 1) ∧ sk_P V p ∧ sk_P V q
/-- the law's 'due' -/
def sk_D (V f p q x : Int32) : Prop := ((f = 0 ∨ f = 1) ∧ sk_P V x) ∧ (¬ sk_G V f p q ∨ ¬ ((x &&& p) = 0 ∧ ((x ^^^ (-1)) &&& q) = 0))
/-- what clause answers and leaves -/
def sk_L (V f p q o : Int32) (a1 a2 a3 : Nat → Int32) : Prop :=
  (sk_G V f p q ∧ o = 0 ∧ a3 f.toNatClampNeg = 1 ∧ a1 (f * 6 + 0).toNatClampNeg = p ∧ a2 (f * 6 + 0).toNatClampNeg = q) ∨ (¬ sk_G V f p q ∧ o = -1 ∧ a3 f.toNatClampNeg = 0)
theorem sk_cl {post : Int32 → St2 → Prop} {k : Nat} {V f p q : Int32} (hk : k < 6) (hV : V = nI k)
    (H : ∀ (o : Int32) (a1 a2 a3 : Nat → Int32), sk_L V f p q o a1 a2 a3 → post o (V, 0, 0, 0, 0, 0, a1, a2, a3, (fun _ => 0), (fun _ => 0), (fun _ => 0), (fun _ => 0), (fun _ => 0))) :
    wpX_clause post (V, 0, 0, 0, 0, 0, (fun _ => 0), (fun _ => 0), (fun _ => 0), (fun _ => 0), (fun _ => 0), (fun _ => 0), (fun _ => 0), (fun _ => 0)) f p q := by
  have B : ¬ sk_G V f p q → post (-1) (V, 0, 0, 0, 0, 0, (fun _ => 0), (fun _ => 0), (fun _ => 0), (fun _ => 0), (fun _ => 0), (fun _ => 0), (fun _ => 0), (fun _ => 0)) :=
    fun n => H (-1) (fun _ => 0) (fun _ => 0) (fun _ => 0) (Or.inr ⟨n, rfl, rfl⟩)
  unfold wpX_clause
  by_cases hf : f = 0 ∨ f = 1
  · refine sk_isT hf (br_f (by decide) ?_)
    by_cases hp : sk_P V p
    · refine sk_beT hp (br_t rfl ?_)
      by_cases hq : sk_P V q
      · refine sk_beT hq (br_t rfl ⟨sk_in2 hf, nm_r (e' := (0 : Int32)) rfl (br_t (by decide) ⟨sk_in12 hf, nm_e ⟨sk_in12 hf, nm_e ⟨sk_in2 hf, sk_in2 hf, nm_e ?_⟩⟩⟩)⟩)
        unfold wpX_forget
        refine H 0 _ _ _ ?_
        exact Or.inl ⟨⟨hf, hp, hq⟩, rfl, pk_us.trans (show ((0 : Int32) + 1).toInt8.toInt32 = 1 by decide), pk_us.trans (sk_Pbyte hk hV hp), pk_us.trans (sk_Pbyte hk hV hq)⟩
      · exact sk_beF hq (br_f (by decide) (B (fun z => hq z.2.2)))
    · exact sk_beF hp (br_f (by decide) (B (fun z => hp z.2.1)))
  · exact sk_isF hf (br_t rfl (B (fun z => hf z.1)))
theorem sk_ho {post : Int32 → Prop} {V f p q x o m s g r t : Int32} {a1 a2 a3 a4 a5 a6 a7 a8 : Nat → Int32} (hl : sk_L V f p q o a1 a2 a3)
    (H : ∀ d : Int32, (sk_D V f p q x → d = 1) → (¬ sk_D V f p q x → d = 0) → post d) : wpX_holds post (V, m, s, g, r, t, a1, a2, a3, a4, a5, a6, a7, a8) f x := by
  have Y : sk_D V f p q x → post 1 := fun h => H 1 (fun _ => rfl) (fun n => absurd h n)
  have N : ¬ sk_D V f p q x → post 0 := fun h => H 0 (fun d => absurd d h) (fun _ => rfl)
  unfold wpX_holds
  by_cases hf : f = 0 ∨ f = 1
  · refine sk_isT hf (br_f (by decide) ?_)
    by_cases hx : sk_P V x
    · refine sk_beT hx (br_t rfl ?_)
      rcases hl with ⟨hg, _, h3, h1, h2⟩ | ⟨hg, _, h3⟩
      · exact sk_va1 hf h3 h1 h2 (fun z => br_f (by decide) (N (fun d => d.2.elim (fun n => n hg) (fun n => n z)))) (fun z => br_t rfl (Y ⟨⟨hf, hx⟩, Or.inr z⟩))
      · exact sk_va0 hf h3 (br_t rfl (Y ⟨⟨hf, hx⟩, Or.inl hg⟩))
    · exact sk_beF hx (br_f (by decide) (N (fun d => hx d.1.2)))
  · exact sk_isF hf (br_t rfl (N (fun d => hf d.1.1)))
end
section
/-! the law's checks, from the last one back -/
section
variable {post : Int32 → St0 → Prop} {mc ms kc ks : Nat}
theorem sk_206 {d due z o : Int32} (ho : o = z) (hd : d = due) (h : post 1 ()) : wL_lawOf_206 post mc ms d 0 (-1) (-1) (-1) due z o kc ks := by
  unfold wL_lawOf_206
  exact br_t ho (br_t hd (br_t rfl (br_t rfl (br_t rfl (br_t rfl h)))))
theorem sk_192 {o d gd due : Int32} (hg : (gd = 0 → o = -1) ∧ (¬ gd = 0 → o = 0)) (hd : d = due) (h : post 1 ()) : wL_lawOf_192 post mc ms o d 0 (-1) (-1) (-1) gd due kc ks := by
  unfold wL_lawOf_192
  exact br_c (fun z => sk_206 (hg.1 z) hd h) (fun z => sk_206 (hg.2 z) hd h)
theorem sk_191 {o d gd : Int32} (hg : (gd = 0 → o = -1) ∧ (¬ gd = 0 → o = 0)) (hd : d = 0) (h : post 1 ()) : wL_lawOf_191 post mc ms o d 0 (-1) (-1) (-1) gd kc ks := by
  unfold wL_lawOf_191
  exact sk_192 hg hd h
theorem sk_187 {o d gd : Int32} (hg : (gd = 0 → o = -1) ∧ (¬ gd = 0 → o = 0)) (hd : d = 1) (h : post 1 ()) : wL_lawOf_187 post mc ms o d 0 (-1) (-1) (-1) gd kc ks := by
  unfold wL_lawOf_187
  exact sk_192 hg hd h
theorem sk_159 {p q x o d gd i : Int32} (hg : (gd = 0 → o = -1) ∧ (¬ gd = 0 → o = 0))
    (h1 : ¬ i = 0 ∧ (gd = 0 ∨ ¬ ((x &&& p) = 0 ∧ ((x ^^^ (-1)) &&& q) = 0)) → d = 1)
    (h0 : ¬ (¬ i = 0 ∧ (gd = 0 ∨ ¬ ((x &&& p) = 0 ∧ ((x ^^^ (-1)) &&& q) = 0))) → d = 0)
    (h : post 1 ()) : wL_lawOf_159 post mc ms p q x o d 0 (-1) (-1) (-1) gd i kc ks := by
  unfold wL_lawOf_159
  exact br_c (fun z => sk_191 hg (h0 (fun t => t.1 z)) h) (fun z => br_c (fun y => sk_187 hg (h1 ⟨z, Or.inl y⟩) h) (fun y => br_c (fun a => br_c (fun b => sk_191 hg (h0 (fun t => t.2.elim y (fun e => e ⟨a, b⟩))) h) (fun b => sk_187 hg (h1 ⟨z, Or.inr (fun e => b e.2)⟩) h)) (fun a => sk_187 hg (h1 ⟨z, Or.inr (fun e => a e.1)⟩) h)))
theorem sk_135 {p q x o d M sd gd : Int32} (hg : (gd = 0 → o = -1) ∧ (¬ gd = 0 → o = 0))
    (h1 : (¬ sd = 0 ∧ ¬ x < 0 ∧ ¬ M < x) ∧ (gd = 0 ∨ ¬ ((x &&& p) = 0 ∧ ((x ^^^ (-1)) &&& q) = 0)) → d = 1)
    (h0 : ¬ ((¬ sd = 0 ∧ ¬ x < 0 ∧ ¬ M < x) ∧ (gd = 0 ∨ ¬ ((x &&& p) = 0 ∧ ((x ^^^ (-1)) &&& q) = 0))) → d = 0)
    (h : post 1 ()) : wL_lawOf_135 post mc ms p q x o d 0 (-1) (-1) (-1) M sd gd kc ks := by
  have out : ¬ (¬ sd = 0 ∧ ¬ x < 0 ∧ ¬ M < x) → wL_lawOf_158 post mc ms p q x o d 0 (-1) (-1) (-1) gd kc ks := by
    intro n
    unfold wL_lawOf_158
    exact sk_159 hg (fun t => (t.1 rfl).elim) (fun _ => h0 (fun t => n t.1)) h
  unfold wL_lawOf_135
  exact br_c (fun a => out (fun t => t.1 a)) (fun a => br_c (fun b => out (fun t => t.2.1 b)) (fun b => br_c (fun c => out (fun t => t.2.2 c)) (fun c => sk_159 hg (fun t => h1 ⟨⟨a, b, c⟩, t.2⟩) (fun n => h0 (fun t => n ⟨by decide, t.2⟩)) h)))
theorem sk_105 {p q x o d M sd : Int32} (hg1 : (¬ sd = 0 ∧ (p &&& (M ^^^ (-1))) = 0 ∧ (q &&& (M ^^^ (-1))) = 0) → o = 0) (hg0 : ¬ (¬ sd = 0 ∧ (p &&& (M ^^^ (-1))) = 0 ∧ (q &&& (M ^^^ (-1))) = 0) → o = -1)
    (h1 : (¬ sd = 0 ∧ ¬ x < 0 ∧ ¬ M < x) ∧ (¬ (¬ sd = 0 ∧ (p &&& (M ^^^ (-1))) = 0 ∧ (q &&& (M ^^^ (-1))) = 0) ∨ ¬ ((x &&& p) = 0 ∧ ((x ^^^ (-1)) &&& q) = 0)) → d = 1)
    (h0 : ¬ ((¬ sd = 0 ∧ ¬ x < 0 ∧ ¬ M < x) ∧ (¬ (¬ sd = 0 ∧ (p &&& (M ^^^ (-1))) = 0 ∧ (q &&& (M ^^^ (-1))) = 0) ∨ ¬ ((x &&& p) = 0 ∧ ((x ^^^ (-1)) &&& q) = 0))) → d = 0)
    (h : post 1 ()) : wL_lawOf_105 post mc ms p q x o d 0 (-1) (-1) (-1) M sd kc ks := by
  have bad : ¬ (¬ sd = 0 ∧ (p &&& (M ^^^ (-1))) = 0 ∧ (q &&& (M ^^^ (-1))) = 0) → wL_lawOf_134 post mc ms p q x o d 0 (-1) (-1) (-1) M sd kc ks := by
    intro n
    unfold wL_lawOf_134
    exact sk_135 ⟨fun _ => hg0 n, fun e => (e rfl).elim⟩ (fun t => h1 ⟨t.1, Or.inl n⟩) (fun e => h0 (fun t => e ⟨t.1, Or.inl rfl⟩)) h
  have good : (¬ sd = 0 ∧ (p &&& (M ^^^ (-1))) = 0 ∧ (q &&& (M ^^^ (-1))) = 0) → wL_lawOf_135 post mc ms p q x o d 0 (-1) (-1) (-1) M sd 1 kc ks := by
    intro y
    exact sk_135 ⟨fun e => absurd e (by decide), fun _ => hg1 y⟩ (fun t => h1 ⟨t.1, Or.inr (t.2.elim (fun e => absurd e (by decide)) id)⟩) (fun e => h0 (fun t => e ⟨t.1, Or.inr (t.2.elim (fun n => absurd y n) id)⟩)) h
  unfold wL_lawOf_105
  exact br_c (fun a => bad (fun t => t.1 a)) (fun a => br_c (fun b => br_c (fun c => good ⟨a, b, c⟩) (fun c => bad (fun t => c t.2.2))) (fun b => bad (fun t => b t.2.1)))
theorem sk_81 {k : Nat} {V f p q x o d : Int32} (hk : k < 6) (hV : V = nI k)
    (hg : (sk_G V f p q ∧ o = 0) ∨ (¬ sk_G V f p q ∧ o = -1))
    (h1 : sk_D V f p q x → d = 1) (h0 : ¬ sk_D V f p q x → d = 0)
    (h : post 1 ()) : wL_lawOf_81 post mc ms f p q x o d 0 (-1) (-1) (-1) V kc ks := by
  have key := sk_Prng (y := x) hk hV
  have main : ∀ sd : Int32, (¬ sd = 0 ↔ (f = 0 ∨ f = 1)) → wL_lawOf_105 post mc ms p q x o d 0 (-1) (-1) (-1) (((1 : Int32) <<< (V &&& 31)) - 1) sd kc ks := by
    intro sd hs
    have eG : (¬ sd = 0 ∧ (p &&& ((((1 : Int32) <<< (V &&& 31)) - 1) ^^^ (-1))) = 0 ∧ (q &&& ((((1 : Int32) <<< (V &&& 31)) - 1) ^^^ (-1))) = 0) ↔ sk_G V f p q := by
      unfold sk_G
      rw [hs]
      exact Iff.rfl
    have eD : ((¬ sd = 0 ∧ ¬ x < 0 ∧ ¬ ((1 : Int32) <<< (V &&& 31)) - 1 < x) ∧ (¬ (¬ sd = 0 ∧ (p &&& ((((1 : Int32) <<< (V &&& 31)) - 1) ^^^ (-1))) = 0 ∧ (q &&& ((((1 : Int32) <<< (V &&& 31)) - 1) ^^^ (-1))) = 0) ∨ ¬ ((x &&& p) = 0 ∧ ((x ^^^ (-1)) &&& q) = 0))) ↔ sk_D V f p q x := by
      unfold sk_D
      rw [eG, key, hs]
    refine sk_105 (fun y => ?_) (fun n => ?_) (fun y => h1 (eD.mp y)) (fun n => h0 (fun y => n (eD.mpr y))) h
    · exact hg.elim (fun a => a.2) (fun a => absurd (eG.mp y) a.1)
    · exact hg.elim (fun a => absurd (eG.mpr a.1) n) (fun a => a.2)
  have side : (f = 0 ∨ f = 1) → wL_lawOf_100 post mc ms p q x o d 0 (-1) (-1) (-1) (((1 : Int32) <<< (V &&& 31)) - 1) kc ks := by
    intro y
    unfold wL_lawOf_100
    exact main 1 ⟨fun _ => y, fun _ => by decide⟩
  unfold wL_lawOf_81
  refine nm_e (br_c (fun a => side (Or.inl a)) (fun a => br_c (fun b => side (Or.inr b)) (fun b => main 0 ⟨fun e => (e rfl).elim, fun y => absurd y (fun t => t.elim a b)⟩)))
theorem sk_o {V f p q o : Int32} {a1 a2 a3 : Nat → Int32} (hl : sk_L V f p q o a1 a2 a3) : (sk_G V f p q ∧ o = 0) ∨ (¬ sk_G V f p q ∧ o = -1) :=
  hl.elim (fun a => Or.inl ⟨a.1, a.2.1⟩) (fun a => Or.inr ⟨a.1, a.2.1⟩)
theorem sk_lawOf {n f p q x : Int32} (h : post 1 ()) : wpL_lawOf post 9 115 () n f p q x := by
  unfold wpL_lawOf
  refine ⟨by decide, by decide, 8, 101, by decide, by decide, ?_⟩
  unfold wpX_init
  refine ⟨by decide, by decide, by decide, by decide, by decide, by decide, by decide, by decide, by decide, by decide, by decide, by decide, by decide, by decide, by decide, by decide, br_c (fun c1 => br_c (fun c5 => ?_) (fun c5 => ?_)) (fun c1 => ?_)⟩
  · obtain ⟨k, hk, hV⟩ := sk_vars c1 c5
    exact sk_cl hk hV (fun o a1 a2 a3 hl => sk_ho hl (fun d h1 h0 => sk_st (sk_ms (sk_rn (sk_ch (br_t c1 (br_t c5 (sk_81 hk hV (sk_o hl) h1 h0 h))))))))
  · exact sk_cl (k := 5) (by decide) rfl (fun o a1 a2 a3 hl => sk_ho hl (fun d h1 h0 => sk_st (sk_ms (sk_rn (sk_ch (br_t c1 (br_f c5 (sk_81 (k := 5) (by decide) rfl (sk_o hl) h1 h0 h))))))))
  · exact sk_cl (k := 1) (by decide) rfl (fun o a1 a2 a3 hl => sk_ho hl (fun d h1 h0 => sk_st (sk_ms (sk_rn (sk_ch (br_f c1 (sk_81 (k := 1) (by decide) rfl (sk_o hl) h1 h0 h)))))))
end
/-- a cell of the script, or 0 beyond its end -/
theorem sk_cell {post : Int32 → Prop} {L i : Nat} {xs : Nat → Int32} {u : St0} {y : Int32} (hL : L ≤ 5) (hi : i < 2 ^ 31) (hy : y = nI i) (h : ∀ v, post v) : wpL_cellAt post L xs u y := by
  unfold wpL_cellAt
  exact pk_le L i (fun _ => h _) (fun z => ⟨by rw [hy]; exact vp_in_nI z (by omega), h _⟩) (hy := hy)
end
section
theorem i_vc (xs : Nat → Int32) (L : Nat) (hL : L ≤ 5) : wpL_law (fun r => r = 1) L xs := by
  unfold wpL_law
  exact sk_cell hL (by omega) (i := 0) rfl (fun n => sk_cell hL (by omega) (i := 1) rfl (fun f => sk_cell hL (by omega) (i := 2) rfl (fun p => sk_cell hL (by omega) (i := 3) rfl (fun q => sk_cell hL (by omega) (i := 4) rfl (fun x => ⟨9, 115, by decide, by decide, sk_lawOf rfl⟩)))))
end
