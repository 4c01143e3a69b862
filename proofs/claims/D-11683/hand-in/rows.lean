section
/-- byte i of the packed array A -/
def sm_g (A i : Nat) : Nat := (A >>> (8 * i)) &&& 255
/-- the array that A packs -/
def sm_d (A : Nat) : Nat → Int32 := fun i => Int32.ofNat (sm_g A i)
/-- A with byte i set to x -/
def sm_s (A i x : Nat) : Nat := A ^^^ ((sm_g A i ^^^ x) <<< (8 * i))
theorem sm_and255 (y b : Nat) : (y &&& 255).testBit b = (y.testBit b && decide (b < 8)) := by
  rw [Nat.testBit_and, show (255 : Nat) = 2 ^ 8 - 1 from rfl, Nat.testBit_two_pow_sub_one]
theorem sm_hi {x : Nat} (hx : x < 256) {b : Nat} (hb : 8 ≤ b) : x.testBit b = false :=
  Nat.testBit_lt_two_pow (Nat.lt_of_lt_of_le (show x < 2 ^ 8 from hx) (Nat.pow_le_pow_right (n := 2) (by decide) hb))
theorem sm_gs (A i x j : Nat) (hx : x < 256) : sm_g (sm_s A i x) j = if j = i then x else sm_g A j := by
  apply Nat.eq_of_testBit_eq
  intro b
  unfold sm_s
  by_cases e : j = i
  · rw [if_pos e, e]
    unfold sm_g
    rw [sm_and255, Nat.testBit_shiftRight, Nat.testBit_xor, Nat.testBit_shiftLeft, Nat.testBit_xor]
    by_cases hb : b < 8
    · rw [show 8 * i + b - 8 * i = b by omega, sm_and255, Nat.testBit_shiftRight]
      have h1 : decide (8 * i + b ≥ 8 * i) = true := decide_eq_true (by omega)
      have h2 : decide (b < 8) = true := decide_eq_true hb
      rw [h1, h2]
      cases A.testBit (8 * i + b) <;> cases x.testBit b <;> rfl
    · rw [sm_hi hx (b := b) (by omega), decide_eq_false hb, Bool.and_false]
  · rw [if_neg e]
    unfold sm_g
    rw [sm_and255, sm_and255, Nat.testBit_shiftRight, Nat.testBit_shiftRight, Nat.testBit_xor, Nat.testBit_shiftLeft]
    by_cases hb : b < 8
    · rw [decide_eq_true hb, Bool.and_true, Bool.and_true]
      by_cases hj : j < i
      · have h1 : decide (8 * j + b ≥ 8 * i) = false := decide_eq_false (by omega)
        rw [h1, Bool.false_and, Bool.xor_false]
      · rw [Nat.testBit_xor, sm_and255, sm_hi hx (b := 8 * j + b - 8 * i) (by omega)]
        have h1 : decide (8 * j + b - 8 * i < 8) = false := decide_eq_false (by omega)
        rw [h1, Bool.and_false, Bool.xor_false, Bool.and_false, Bool.xor_false]
    · rw [decide_eq_false hb, Bool.and_false, Bool.and_false]
theorem sm_upd (A i x : Nat) (hx : x < 256) : upd (sm_d A) i (Int32.ofNat x) = sm_d (sm_s A i x) := by
  funext j
  show (if j = i then Int32.ofNat x else Int32.ofNat (sm_g A j)) = Int32.ofNat (sm_g (sm_s A i x) j)
  rw [sm_gs A i x j hx]
  by_cases e : j = i
  · rw [if_pos e, if_pos e]
  · rw [if_neg e, if_neg e]
theorem sm_d0 : (fun _ => 0 : Nat → Int32) = sm_d 0 := by
  funext j
  show (0 : Int32) = Int32.ofNat ((0 >>> (8 * j)) &&& 255)
  rw [Nat.zero_shiftRight, Nat.zero_and]
  rfl
/-- the number of an int that is not negative -/
def sm_n (x : Int32) : Nat := x.toBitVec.toNat
/-- x worked out before k goes on -/
noncomputable def sm_f (x : Nat) (k : Nat → Bool) : Bool := Nat.rec (motive := fun _ => Bool) (k 0) (fun m _ => k (Nat.succ m)) x
theorem sm_f_e (x : Nat) (k : Nat → Bool) : sm_f x k = k x := by cases x <;> rfl
noncomputable def sm_q (x : Int32) (k : Int32 → Bool) : Bool := sm_f (sm_n x) (fun m => k (Int32.ofNat m))
theorem sm_n_e (x : Int32) : Int32.ofNat (sm_n x) = x := by
  apply Int32.toBitVec_inj.mp
  show BitVec.ofNat 32 x.toBitVec.toNat = x.toBitVec
  rw [BitVec.ofNat_toNat, BitVec.setWidth_eq]
theorem sm_q_e (x : Int32) (k : Int32 → Bool) : sm_q x k = k x := by
  unfold sm_q
  rw [sm_f_e, sm_n_e]
theorem sm_qI {x : Int32} {k : Int32 → Bool} (h : sm_q x k = true) : k x = true := by rwa [sm_q_e] at h
theorem sm_cl {x : Int32} {N : Nat} (h : sm_n x < N) (hN : N < 2 ^ 31) : vp_in x N ∧ x.toNatClampNeg = sm_n x := by
  have e : nI (sm_n x) = x := sm_n_e x
  have h1 : vp_in (nI (sm_n x)) N := vp_in_nI h hN
  have h2 : (nI (sm_n x)).toNatClampNeg = sm_n x := nI_clamp (by omega)
  rw [e] at h1 h2
  exact ⟨h1, h2⟩
theorem sm_byte8 : ∀ n, n < 128 → (nI n).toInt8.toInt32 = Int32.ofNat n := by decide +kernel
theorem sm_by {x : Int32} (h : sm_n x < 128) : x.toInt8.toInt32 = Int32.ofNat (sm_n x) := by
  have e : nI (sm_n x) = x := sm_n_e x
  have h1 := sm_byte8 _ h
  rw [e] at h1
  exact h1
/-- a place read: in range, and what it holds -/
noncomputable def sm_rd (A N : Nat) (i : Int32) (k : Int32 → Bool) : Bool := Nat.blt (sm_n i) N && sm_f (sm_g A (sm_n i)) (fun x => k (Int32.ofNat x))
/-- a place written -/
noncomputable def sm_wr (A N : Nat) (i x : Int32) (k : Nat → Bool) : Bool := Nat.blt (sm_n i) N && (Nat.blt (sm_n x) 128 && sm_f (sm_s A (sm_n i) (sm_n x)) k)
theorem sm_blt {a b : Nat} (h : Nat.blt a b = true) : a < b := by
  unfold Nat.blt at h
  exact Nat.le_of_ble_eq_true h
theorem sm_rdI {A N : Nat} {i : Int32} {k : Int32 → Bool} (hN : N < 2 ^ 31) (h : sm_rd A N i k = true) : vp_in i N ∧ k (sm_d A i.toNatClampNeg) = true := by
  unfold sm_rd at h
  rw [Bool.and_eq_true, sm_f_e] at h
  obtain ⟨h1, h2⟩ := sm_cl (sm_blt h.1) hN
  refine ⟨h1, ?_⟩
  rw [h2]
  exact h.2
theorem sm_rdP {A N : Nat} {i : Int32} {k : Int32 → Bool} {P : Int32 → Prop} (hN : N < 2 ^ 31) (h : sm_rd A N i k = true) (hp : ∀ x, k x = true → P x) : vp_in i N ∧ P (sm_d A i.toNatClampNeg) :=
  have t := sm_rdI hN h
  ⟨t.1, hp _ t.2⟩
theorem sm_rdE {A N : Nat} {i : Int32} {k : Int32 → Bool} {Q : Int32 → Prop} (hN : N < 2 ^ 31) (h : sm_rd A N i k = true) (hp : ∀ x, k x = true → Q x) : vp_in i N ∧ ∀ x, x = sm_d A i.toNatClampNeg → Q x :=
  have t := sm_rdI hN h
  ⟨t.1, fun x ex => hp x (by rw [ex]; exact t.2)⟩
theorem sm_wrE {A N : Nat} {i x : Int32} {k : Nat → Bool} {Q : (Nat → Int32) → Prop} (hN : N < 2 ^ 31) (h : sm_wr A N i x k = true) (hp : ∀ A', k A' = true → Q (sm_d A')) : vp_in i N ∧ ∀ a, a = upd (sm_d A) i.toNatClampNeg x.toInt8.toInt32 → Q a := by
  unfold sm_wr at h
  rw [Bool.and_eq_true, Bool.and_eq_true, sm_f_e] at h
  obtain ⟨h1, h2⟩ := sm_cl (sm_blt h.1) hN
  have h3 := sm_blt h.2.1
  refine ⟨h1, fun a ea => ?_⟩
  rw [ea, h2, sm_by h3, sm_upd A _ _ (by omega)]
  exact hp _ h.2.2
theorem sm_if {c A B : Prop} {i : Decidable c} {a b : Bool} (h : (@ite Bool c i a b) = true) (ha : a = true → A) (hb : b = true → B) : (c → A) ∧ (¬ c → B) :=
  ⟨fun z => ha (by rwa [if_pos z] at h), fun z => hb (by rwa [if_neg z] at h)⟩
/-- the road 'else' is not shown -/
theorem sm_ifT {c A B : Prop} {i : Decidable c} {a : Bool} (h : (@ite Bool c i a false) = true) (ha : a = true → A) : (c → A) ∧ (¬ c → B) :=
  sm_if h ha (fun z => absurd z (by decide))
/-- the road 'then' is not shown -/
theorem sm_ifF {c A B : Prop} {i : Decidable c} {b : Bool} (h : (@ite Bool c i false b) = true) (hb : b = true → B) : (c → A) ∧ (¬ c → B) :=
  sm_if h (fun z => absurd z (by decide)) hb
end
section
def sm_next (h : Int32) : Int32 := if h - h / 3 * 3 = 2 then h - 2 else h + 1
def sm_bef (h : Int32) : Int32 := if h - h / 3 * 3 = 0 then h + 2 else h - 1
def sm_isV (v a : Int32) : Int32 := if a < 0 then 0 else if 10 ≤ a then 0 else if (v >>> (a &&& 31)) &&& 1 = 0 then 0 else 1
def sm_isU (f a : Int32) : Int32 := if (f >>> (a &&& 31)) &&& 1 = 0 then 0 else 1
theorem sm_ite {c : Prop} {i : Decidable c} {x y : Int32} {P : Int32 → Prop} (h : P (@ite Int32 c i x y)) : (c → P x) ∧ (¬ c → P y) :=
  ⟨fun z => by rwa [if_pos z] at h, fun z => by rwa [if_neg z] at h⟩
theorem sm_next_ok {post : Int32 → Prop} {u : St0} {h : Int32} (hp : post (sm_next h)) : wpX_next post u h :=
  ⟨by decide, sm_ite (P := post) hp⟩
theorem sm_bef_ok {post : Int32 → Prop} {u : St0} {h : Int32} (hp : post (sm_bef h)) : wpX_before post u h :=
  ⟨by decide, sm_ite (P := post) hp⟩
theorem sm_isV_ok {post : Int32 → Prop} {v f : Int32} {a b c : Nat → Int32} {x : Int32} (hp : post (sm_isV v x)) : wpX_isVertex post (v, f, a, b, c) x :=
  have t := sm_ite (P := post) hp
  ⟨t.1, fun z => have t2 := sm_ite (P := post) (t.2 z); ⟨t2.1, fun z2 => sm_ite (P := post) (t2.2 z2)⟩⟩
theorem sm_isU_ok {post : Int32 → Prop} {v f : Int32} {a b c : Nat → Int32} {x : Int32} (hp : post (sm_isU f x)) : wpX_isUsed post (v, f, a, b, c) x :=
  sm_ite (P := post) hp
noncomputable def sm_to (A : Nat) (h : Int32) (k : Int32 → Bool) : Bool := sm_rd A 48 (sm_next h) k
noncomputable def sm_third (A : Nat) (h : Int32) (k : Int32 → Bool) : Bool := sm_rd A 48 (sm_bef h) k
theorem sm_to_ok {post : Int32 → Prop} {v f : Int32} {A : Nat} {b c : Nat → Int32} {x : Int32} {k : Int32 → Bool} (h : sm_to A x k = true) (hp : ∀ r, k r = true → post r) : wpX_to post (v, f, sm_d A, b, c) x :=
  sm_next_ok (u := ()) (post := fun r => vp_in r 48 ∧ post (sm_d A r.toNatClampNeg)) (sm_rdP (P := post) (by decide) h hp)
theorem sm_third_ok {post : Int32 → Prop} {v f : Int32} {A : Nat} {b c : Nat → Int32} {x : Int32} {k : Int32 → Bool} (h : sm_third A x k = true) (hp : ∀ r, k r = true → post r) : wpX_third post (v, f, sm_d A, b, c) x :=
  sm_bef_ok (u := ()) (post := fun r => vp_in r 48 ∧ post (sm_d A r.toNatClampNeg)) (sm_rdP (P := post) (by decide) h hp)
noncomputable def sm_write (A : Nat) (p0 p1 p2 p3 : Int32) (k : Nat → Bool) : Bool := sm_wr A 48 (3 * p0) p1 (fun A => sm_wr A 48 (3 * p0 + 1) p2 (fun A => sm_wr A 48 (3 * p0 + 2) p3 k))
theorem sm_write_ok {post : St2 → Prop} {v f : Int32} {A : Nat} {b c : Nat → Int32} {p0 p1 p2 p3 : Int32} {k : Nat → Bool} (h : sm_write A p0 p1 p2 p3 k = true) (hp : ∀ A', k A' = true → post (v, f, sm_d A', b, c)) : wpX_write post (v, f, sm_d A, b, c) p0 p1 p2 p3 := by
  unfold sm_write at h
  unfold wpX_write
  exact sm_wrE (by decide) h (fun A1 h1 => sm_wrE (by decide) h1 (fun A2 h2 => sm_wrE (by decide) h2 hp))
noncomputable def sm_link (B : Nat) (p0 p1 : Int32) (k : Nat → Bool) : Bool := sm_wr B 48 p0 p1 (fun B => sm_wr B 48 p1 p0 k)
theorem sm_link_ok {post : St2 → Prop} {v f : Int32} {B : Nat} {a c : Nat → Int32} {p0 p1 : Int32} {k : Nat → Bool} (h : sm_link B p0 p1 k = true) (hp : ∀ B', k B' = true → post (v, f, a, sm_d B', c)) : wpX_link post (v, f, a, sm_d B, c) p0 p1 := by
  unfold sm_link at h
  unfold wpX_link
  exact sm_wrE (by decide) h (fun A1 h1 => sm_wrE (by decide) h1 hp)
/-- refresh -/
noncomputable def sm_r2 (f : Int32) (A : Nat) (k : Nat → Bool) : Nat → Int32 → Nat → Bool
  | 0 => fun _ _ => false
  | n + 1 => fun x C => if 48 ≤ x then k C else if sm_isU f (x / 3) = 0 then sm_q (x + 1) (fun y => sm_r2 f A k n y C) else sm_rd A 48 x (fun y => sm_wr C 10 y x (fun C' => sm_q (x + 1) (fun y => sm_r2 f A k n y C')))
theorem sm_r2_ok {post : St2 → Prop} {v f : Int32} {A : Nat} {b : Nat → Int32} {k : Nat → Bool} (hp : ∀ C', k C' = true → post (v, f, sm_d A, b, sm_d C')) : ∀ (n : Nat) (x : Int32) (C : Nat), sm_r2 f A k n x C = true → wX_refresh_2 post v f n x (sm_d A) b (sm_d C) := by
  intro n
  induction n with
  | zero => intro x C h; exact absurd h Bool.false_ne_true
  | succ n ih =>
    intro x C h
    refine sm_if h (fun h => hp C h) (fun h => ⟨by decide, sm_isU_ok ?_⟩)
    refine sm_if h (fun h => nm_e (ih _ _ (sm_qI h))) (fun h => ?_)
    have t := sm_rdI (by decide) h
    exact ⟨t.1, sm_wrE (by decide) t.2 (fun C' h => nm_e (ih _ _ (sm_qI h)))⟩
noncomputable def sm_refresh (f : Int32) (A C : Nat) (k : Nat → Bool) : Bool := sm_r2 f A k 49 0 C
theorem sm_refresh_ok {post : St2 → Prop} {v f : Int32} {A C : Nat} {b : Nat → Int32} {k : Nat → Bool} (h : sm_refresh f A C k = true) (hp : ∀ C', k C' = true → post (v, f, sm_d A, b, sm_d C')) : wpX_refresh post (v, f, sm_d A, b, sm_d C) :=
  ⟨49, sm_r2_ok hp 49 0 C h⟩
/-- find -/
noncomputable def sm_f28 (A B : Nat) (x2 : Int32) (k : Int32 → Bool) : Nat → Int32 → Int32 → Bool
  | 0 => fun _ _ => false
  | n + 1 => fun x3 x4 => if 10 ≤ x4 then k (-1) else sm_to A x3 (fun r => if r = x2 then k x3 else sm_rd B 48 (sm_bef x3) (fun y => sm_q (x4 + 1) (fun z => sm_f28 A B x2 k n y z)))
theorem sm_f28_ok {post : Int32 → Prop} {v f : Int32} {A B : Nat} {c : Nat → Int32} {x2 : Int32} {k : Int32 → Bool} (hp : ∀ r, k r = true → post r) : ∀ (n : Nat) (x3 x4 : Int32), sm_f28 A B x2 k n x3 x4 = true → wX_find_28 post x2 v f (sm_d A) (sm_d B) c n x3 x4 := by
  intro n
  induction n with
  | zero => intro x3 x4 h; exact absurd h Bool.false_ne_true
  | succ n ih =>
    intro x3 x4 h
    refine sm_if h (hp _) (fun h => sm_to_ok h (fun r h => ?_))
    refine sm_if h (hp _) (fun h => sm_bef_ok ?_)
    exact sm_rdE (by decide) h (fun y h => nm_e (ih _ _ (sm_qI h)))
noncomputable def sm_find (v : Int32) (A B C : Nat) (p0 p1 : Int32) (k : Int32 → Bool) : Bool := if sm_isV v p0 = 0 then k (-1) else if sm_isV v p1 = 0 then k (-1) else sm_rd C 10 p0 (fun h => sm_f28 A B p1 k 11 h 0)
theorem sm_find_ok {post : Int32 → Prop} {v f : Int32} {A B C : Nat} {p0 p1 : Int32} {k : Int32 → Bool} (h : sm_find v A B C p0 p1 k = true) (hp : ∀ r, k r = true → post r) : wpX_find post (v, f, sm_d A, sm_d B, sm_d C) p0 p1 := by
  unfold sm_find at h
  unfold wpX_find
  refine sm_isV_ok (sm_if h (hp _) (fun h => sm_isV_ok (sm_if h (hp _) (fun h => ?_))))
  exact sm_rdE (by decide) h (fun y h => ⟨11, sm_f28_ok hp 11 y 0 h⟩)
noncomputable def sm_opp (v : Int32) (A B C : Nat) (p0 p1 : Int32) (k : Int32 → Bool) : Bool := sm_find v A B C p0 p1 (fun r => if 0 ≤ r then sm_third A r k else k (-1))
theorem sm_opp_ok {post : Int32 → Prop} {v f : Int32} {A B C : Nat} {p0 p1 : Int32} {k : Int32 → Bool} (h : sm_opp v A B C p0 p1 k = true) (hp : ∀ r, k r = true → post r) : wpX_opposite post (v, f, sm_d A, sm_d B, sm_d C) p0 p1 := by
  unfold sm_opp at h
  unfold wpX_opposite
  exact sm_find_ok h (fun r h => sm_if h (fun h => sm_third_ok h hp) (hp _))
/-- joinedTo -/
noncomputable def sm_j12 (A B : Nat) (k : Int32 → Bool) : Nat → Int32 → Int32 → Int32 → Bool
  | 0 => fun _ _ _ => false
  | n + 1 => fun x2 x3 x4 => if 10 ≤ x4 then k x2 else sm_to A x3 (fun r => sm_q (x2 ||| ((1 : Int32) <<< (r &&& 31))) (fun w => sm_rd B 48 (sm_bef x3) (fun y => sm_q (x4 + 1) (fun z => sm_j12 A B k n w y z))))
theorem sm_j12_ok {post : Int32 → Prop} {v f : Int32} {A B : Nat} {c : Nat → Int32} {k : Int32 → Bool} (hp : ∀ r, k r = true → post r) : ∀ (n : Nat) (x2 x3 x4 : Int32), sm_j12 A B k n x2 x3 x4 = true → wX_joinedTo_12 post v f (sm_d A) (sm_d B) c n x2 x3 x4 := by
  intro n
  induction n with
  | zero => intro x2 x3 x4 h; exact absurd h Bool.false_ne_true
  | succ n ih =>
    intro x2 x3 x4 h
    refine sm_if h (hp _) (fun h => sm_to_ok h (fun r h => nm_e (sm_bef_ok ?_)))
    exact sm_rdE (by decide) (sm_qI h) (fun y h => nm_e (ih _ _ _ (sm_qI h)))
noncomputable def sm_jt (A B C : Nat) (p0 : Int32) (k : Int32 → Bool) : Bool := sm_rd C 10 p0 (fun h => sm_j12 A B k 11 0 h 0)
theorem sm_jt_ok {post : Int32 → Prop} {v f : Int32} {A B C : Nat} {p0 : Int32} {k : Int32 → Bool} (h : sm_jt A B C p0 k = true) (hp : ∀ r, k r = true → post r) : wpX_joinedTo post (v, f, sm_d A, sm_d B, sm_d C) p0 := by
  unfold sm_jt at h
  unfold wpX_joinedTo
  exact sm_rdE (by decide) h (fun y h => ⟨11, sm_j12_ok hp 11 0 y 0 h⟩)
noncomputable def sm_joined (v : Int32) (A B C : Nat) (p0 : Int32) (k : Int32 → Bool) : Bool := if sm_isV v p0 = 0 then k 0 else sm_jt A B C p0 k
theorem sm_joined_ok {post : Int32 → Prop} {v f : Int32} {A B C : Nat} {p0 : Int32} {k : Int32 → Bool} (h : sm_joined v A B C p0 k = true) (hp : ∀ r, k r = true → post r) : wpX_joined post (v, f, sm_d A, sm_d B, sm_d C) p0 := by
  unfold sm_joined at h
  unfold wpX_joined
  exact sm_isV_ok (sm_if h (hp _) (fun h => sm_jt_ok h hp))
/-- ones -/
noncomputable def sm_o4 (x1 : Int32) (k : Int32 → Bool) : Nat → Int32 → Int32 → Bool
  | 0 => fun _ _ => false
  | n + 1 => fun x2 x3 => if 16 ≤ x3 then k x2 else sm_q (x2 + ((x1 >>> (x3 &&& 31)) &&& 1)) (fun y => sm_q (x3 + 1) (fun z => sm_o4 x1 k n y z))
theorem sm_o4_ok {post : Int32 → Prop} {v f : Int32} {a b c : Nat → Int32} {x1 : Int32} {k : Int32 → Bool} (hp : ∀ r, k r = true → post r) : ∀ (n : Nat) (x2 x3 : Int32), sm_o4 x1 k n x2 x3 = true → wX_ones_4 post x1 v f a b c n x2 x3 := by
  intro n
  induction n with
  | zero => intro x2 x3 h; exact absurd h Bool.false_ne_true
  | succ n ih =>
    intro x2 x3 h
    exact sm_if h (hp _) (fun h => nm_e (nm_e (ih _ _ (sm_qI (sm_qI h)))))
noncomputable def sm_ones (x1 : Int32) (k : Int32 → Bool) : Bool := sm_o4 x1 k 17 0 0
theorem sm_ones_ok {post : Int32 → Prop} {v f : Int32} {a b c : Nat → Int32} {x1 : Int32} {k : Int32 → Bool} (h : sm_ones x1 k = true) (hp : ∀ r, k r = true → post r) : wpX_ones post (v, f, a, b, c) x1 :=
  ⟨17, sm_o4_ok hp 17 0 0 h⟩
theorem sm_faces_ok {post : Int32 → Prop} {v f : Int32} {a b c : Nat → Int32} {k : Int32 → Bool} (h : sm_ones f k = true) (hp : ∀ r, k r = true → post r) : wpX_faces post (v, f, a, b, c) := by
  unfold wpX_faces
  exact sm_ones_ok h hp
/-- freeVertex -/
noncomputable def sm_fv2 (v : Int32) (k : Int32 → Bool) : Nat → Int32 → Bool
  | 0 => fun _ => false
  | n + 1 => fun x => if 10 ≤ x then k x else if sm_isV v x = 0 then k x else sm_q (x + 1) (fun y => sm_fv2 v k n y)
theorem sm_fv2_ok {post : Int32 → Prop} {v f : Int32} {a b c : Nat → Int32} {k : Int32 → Bool} (hp : ∀ r, k r = true → post r) : ∀ (n : Nat) (x : Int32), sm_fv2 v k n x = true → wX_freeVertex_2 post v f a b c n x := by
  intro n
  induction n with
  | zero => intro x h; exact absurd h Bool.false_ne_true
  | succ n ih =>
    intro x h
    exact sm_if h (hp _) (fun h => sm_isV_ok (sm_if h (hp _) (fun h => nm_e (ih _ (sm_qI h)))))
theorem sm_fv_ok {post : Int32 → Prop} {v f : Int32} {a b c : Nat → Int32} {k : Int32 → Bool} (h : sm_fv2 v k 11 0 = true) (hp : ∀ r, k r = true → post r) : wpX_freeVertex post (v, f, a, b, c) :=
  ⟨11, sm_fv2_ok hp 11 0 h⟩
/-- newFace -/
noncomputable def sm_nf2 (f : Int32) (k : Int32 → Int32 → Bool) : Nat → Int32 → Bool
  | 0 => fun _ => false
  | n + 1 => fun x => if 15 ≤ x then k x (f ||| ((1 : Int32) <<< (x &&& 31))) else if sm_isU f x = 0 then sm_q (f ||| ((1 : Int32) <<< (x &&& 31))) (fun g => k x g) else sm_q (x + 1) (fun y => sm_nf2 f k n y)
theorem sm_nf2_ok {post : Int32 → St2 → Prop} {v f : Int32} {a b c : Nat → Int32} {k : Int32 → Int32 → Bool} (hp : ∀ r g, k r g = true → post r (v, g, a, b, c)) : ∀ (n : Nat) (x : Int32), sm_nf2 f k n x = true → wX_newFace_2 post v f a b c n x := by
  intro n
  induction n with
  | zero => intro x h; exact absurd h Bool.false_ne_true
  | succ n ih =>
    intro x h
    exact sm_if h (fun h => fun g eg => hp x g (by rw [eg]; exact h)) (fun h => sm_isU_ok (sm_if h (fun h => fun g eg => hp x g (by rw [eg]; exact sm_qI h)) (fun h => nm_e (ih _ (sm_qI h)))))
theorem sm_nf_ok {post : Int32 → St2 → Prop} {v f : Int32} {a b c : Nat → Int32} {k : Int32 → Int32 → Bool} (h : sm_nf2 f k 17 0 = true) (hp : ∀ r g, k r g = true → post r (v, g, a, b, c)) : wpX_newFace post (v, f, a, b, c) :=
  ⟨17, sm_nf2_ok hp 17 0 h⟩
end
section
noncomputable def sm_canC (v : Int32) (A B C : Nat) (p0 p1 : Int32) (k : Int32 → Bool) : Bool := sm_jt A B C p0 (fun r1 => sm_jt A B C p1 (fun r2 => sm_ones v (fun r4 => if r4 ≤ 4 then k 0 else sm_q (r1 &&& r2) (fun x => sm_ones x (fun r6 => if r6 = 2 then k 1 else k 0)))))
theorem sm_canC_ok {post : Int32 → Prop} {v f : Int32} {A B C : Nat} {p0 p1 : Int32} {k : Int32 → Bool} (h : sm_canC v A B C p0 p1 k = true) (hp : ∀ r, k r = true → post r) : wpX_canCollapse post (v, f, sm_d A, sm_d B, sm_d C) p0 p1 := by
  unfold sm_canC at h
  unfold wpX_canCollapse
  refine sm_jt_ok h (fun r1 h => sm_jt_ok h (fun r2 h => nm_e (sm_ones_ok h (fun r4 h => ?_))))
  exact sm_if h (hp _) (fun h => sm_ones_ok (sm_qI h :) (fun r6 h => sm_if h (hp _) (hp _)))
/-- collapse: the renaming of one vertex, and what stands behind it -/
noncomputable def sm_c137 (x1 x2 v f : Int32) (B C : Nat) (k : Int32 → Int32 → Int32 → Nat → Nat → Nat → Bool) : Nat → Int32 → Nat → Bool
  | 0 => fun _ _ => false
  | n + 1 => fun x A => if 48 ≤ x then sm_q (v &&& (((1 : Int32) <<< (x2 &&& 31)) ^^^ (-1))) (fun v => sm_refresh f A C (fun C => sm_ones v (fun r => k r v f A B C))) else sm_rd A 48 x (fun y => if y = x2 then sm_wr A 48 x x1 (fun A => sm_q (x + 1) (fun z => sm_c137 x1 x2 v f B C k n z A)) else sm_wr A 48 x y (fun A => sm_q (x + 1) (fun z => sm_c137 x1 x2 v f B C k n z A)))
theorem sm_c137_ok {post : Int32 → St2 → Prop} {x1 x2 v f : Int32} {B C : Nat} {k : Int32 → Int32 → Int32 → Nat → Nat → Nat → Bool} (hp : ∀ r v f A B C, k r v f A B C = true → post r (v, f, sm_d A, sm_d B, sm_d C)) : ∀ (n : Nat) (x : Int32) (A : Nat), sm_c137 x1 x2 v f B C k n x A = true → wX_collapse_137 post x1 x2 v f n x (sm_d A) (sm_d B) (sm_d C) := by
  intro n
  induction n with
  | zero => intro x A h; exact absurd h Bool.false_ne_true
  | succ n ih =>
    intro x A h
    refine sm_if h (fun h => nm_e (sm_refresh_ok (sm_qI h :) (fun C' h => sm_ones_ok h (fun r h => hp _ _ _ _ _ _ h)))) (fun h => ?_)
    have t := sm_rdI (by decide) h
    refine ⟨t.1, sm_if t.2 (fun h => ?_) (fun h => ⟨t.1, ?_⟩)⟩
    · exact sm_wrE (by decide) h (fun A' h => nm_e (ih _ _ (sm_qI h :)))
    · rw [vp_nar_byte]
      exact sm_wrE (by decide) h (fun A' h => nm_e (ih _ _ (sm_qI h :)))
noncomputable def sm_collapse (v f : Int32) (A B C : Nat) (p0 p1 : Int32) (k : Int32 → Int32 → Int32 → Nat → Nat → Nat → Bool) : Bool :=
  sm_find v A B C p0 p1 (fun r1 => if 0 ≤ r1 then sm_canC v A B C p0 p1 (fun r3 => if r3 = 0 then k (-3) v f A B C else
    sm_rd B 48 r1 (fun x4 => sm_rd B 48 (sm_next r1) (fun x9 => sm_rd B 48 (sm_bef r1) (fun x10 => sm_rd B 48 (sm_next x4) (fun x11 => sm_rd B 48 (sm_bef x4) (fun x12 =>
    sm_q (f &&& ((((1 : Int32) <<< ((r1 / 3) &&& 31)) ||| ((1 : Int32) <<< ((x4 / 3) &&& 31))) ^^^ (-1))) (fun f =>
    sm_link B x9 x10 (fun B => sm_link B x11 x12 (fun B => sm_c137 p0 p1 v f B C k 49 0 A))))))))) else k (-1) v f A B C)
theorem sm_collapse_ok {post : Int32 → St2 → Prop} {v f : Int32} {A B C : Nat} {p0 p1 : Int32} {k : Int32 → Int32 → Int32 → Nat → Nat → Nat → Bool} (h : sm_collapse v f A B C p0 p1 k = true) (hp : ∀ r v f A B C, k r v f A B C = true → post r (v, f, sm_d A, sm_d B, sm_d C)) : wpX_collapse post (v, f, sm_d A, sm_d B, sm_d C) p0 p1 := by
  unfold sm_collapse at h
  unfold wpX_collapse
  refine sm_find_ok h (fun r1 h => sm_if h (fun h => sm_canC_ok h (fun r3 h => sm_if h (hp _ _ _ _ _ _) (fun h => ?_))) (hp _ _ _ _ _ _))
  refine sm_rdE (by decide) h (fun x4 h => sm_next_ok (sm_bef_ok (sm_next_ok (sm_bef_ok ?_))))
  refine sm_rdE (by decide) h (fun x9 h => sm_rdE (by decide) h (fun x10 h => sm_rdE (by decide) h (fun x11 h => sm_rdE (by decide) h (fun x12 h => ⟨by decide, by decide, nm_e ?_⟩))))
  refine sm_link_ok (sm_qI h :) (fun B1 h => sm_link_ok h (fun B2 h => ⟨49, ?_⟩))
  exact sm_c137_ok hp 49 0 A h
/-- distance -/
noncomputable def sm_d46 (A B C : Nat) (x3 : Int32) (J : Int32 → Bool) : Nat → Int32 → Int32 → Bool
  | 0 => fun _ _ => false
  | n + 1 => fun x5 x6 => if 10 ≤ x6 then J x5 else if (x3 >>> (x6 &&& 31)) &&& 1 = 0 then sm_q (x6 + 1) (fun z => sm_d46 A B C x3 J n (x5 ||| 0) z) else sm_jt A B C x6 (fun r => sm_q (x5 ||| r) (fun w => sm_q (x6 + 1) (fun z => sm_d46 A B C x3 J n w z)))
theorem sm_d46_ok {post : Int32 → Prop} {J25 : Int32 → Int32 → Prop} {x2 x3 x4 v f : Int32} {A B C : Nat} {J : Int32 → Bool} (hj : ∀ x, J x = true → J25 x (x4 + 1)) : ∀ (n : Nat) (x5 x6 : Int32), sm_d46 A B C x3 J n x5 x6 = true → wX_distance_46 post J25 x2 x3 x4 v f (sm_d A) (sm_d B) (sm_d C) n x5 x6 := by
  intro n
  induction n with
  | zero => intro x5 x6 h; exact absurd h Bool.false_ne_true
  | succ n ih =>
    intro x5 x6 h
    refine sm_if h (fun h => nm_e (hj _ h)) (fun h => sm_if h (fun h => nm_e (nm_e (ih _ _ (sm_qI h :)))) (fun h => ?_))
    exact sm_jt_ok h (fun r h => nm_e (nm_e (ih _ _ (sm_qI (sm_qI h) :))))
noncomputable def sm_d25 (A B C : Nat) (x2 : Int32) (k : Int32 → Bool) : Nat → Int32 → Int32 → Bool
  | 0 => fun _ _ => false
  | n + 1 => fun x3 x4 => if 10 ≤ x4 then k x4 else if (x3 >>> (x2 &&& 31)) &&& 1 = 0 then sm_q (x4 + 1) (fun z => sm_d46 A B C x3 (fun w => sm_d25 A B C x2 k n w z) 11 x3 0) else k x4
theorem sm_d25_ok {post : Int32 → Prop} {x2 v f : Int32} {A B C : Nat} {k : Int32 → Bool} (hp : ∀ r, k r = true → post r) : ∀ (n : Nat) (x3 x4 : Int32), sm_d25 A B C x2 k n x3 x4 = true → wX_distance_25 post x2 v f (sm_d A) (sm_d B) (sm_d C) n x3 x4 := by
  intro n
  induction n with
  | zero => intro x3 x4 h; exact absurd h Bool.false_ne_true
  | succ n ih =>
    intro x3 x4 h
    refine sm_if h (hp _) (fun h => sm_if h (fun h => ⟨11, ?_⟩) (hp _))
    exact sm_d46_ok (fun x h => ih _ _ h) 11 _ _ (sm_qI h :)
noncomputable def sm_dist (v : Int32) (A B C : Nat) (p0 p1 : Int32) (k : Int32 → Bool) : Bool := if sm_isV v p0 = 0 then k (-1) else if sm_isV v p1 = 0 then k (-1) else sm_q ((1 : Int32) <<< (p0 &&& 31)) (fun x => sm_d25 A B C p1 k 11 x 0)
theorem sm_dist_ok {post : Int32 → Prop} {v f : Int32} {A B C : Nat} {p0 p1 : Int32} {k : Int32 → Bool} (h : sm_dist v A B C p0 p1 k = true) (hp : ∀ r, k r = true → post r) : wpX_distance post (v, f, sm_d A, sm_d B, sm_d C) p0 p1 := by
  unfold sm_dist at h
  unfold wpX_distance
  refine sm_isV_ok (sm_if h (hp _) (fun h => sm_isV_ok (sm_if h (hp _) (fun h => nm_e ⟨11, ?_⟩))))
  exact sm_d25_ok hp 11 _ 0 (sm_qI h :)
/-- splitEdge -/
noncomputable def sm_split (v f : Int32) (A B C : Nat) (p0 p1 : Int32) (k : Int32 → Int32 → Int32 → Nat → Nat → Nat → Bool) : Bool :=
  sm_find v A B C p0 p1 (fun r1 => if 0 ≤ r1 then sm_fv2 v (fun r3 => if r3 = 10 then false else
    sm_rd B 48 r1 (fun x5 => sm_third A r1 (fun r7 => sm_third A x5 (fun r8 =>
    sm_rd B 48 (sm_next r1) (fun x12 => sm_rd B 48 (sm_bef r1) (fun x13 => sm_rd B 48 (sm_next x5) (fun x14 => sm_rd B 48 (sm_bef x5) (fun x15 =>
    sm_q (r1 / 3) (fun x16 => sm_q (x5 / 3) (fun x17 =>
    sm_nf2 f (fun r25 f => sm_nf2 f (fun r37 f =>
    sm_write A x16 p0 r3 r7 (fun A => sm_write A r25 r3 p1 r7 (fun A => sm_write A x17 p1 r3 r8 (fun A => sm_write A r37 r3 p0 r8 (fun A =>
    sm_link B (3 * x16) (3 * r37) (fun B => sm_link B (3 * r25) (3 * x17) (fun B => sm_link B (3 * x16 + 1) (3 * r25 + 2) (fun B => sm_link B (3 * x17 + 1) (3 * r37 + 2) (fun B =>
    sm_link B (3 * x16 + 2) x13 (fun B => sm_link B (3 * r25 + 1) x12 (fun B => sm_link B (3 * x17 + 2) x15 (fun B => sm_link B (3 * r37 + 1) x14 (fun B =>
    sm_q (v ||| ((1 : Int32) <<< (r3 &&& 31))) (fun v => sm_refresh f A C (fun C => k r3 v f A B C))))))))))))))) 17 0) 17 0)))))))))) 11 0 else k (-1) v f A B C)
theorem sm_split_ok {post : Int32 → St2 → Prop} {v f : Int32} {A B C : Nat} {p0 p1 : Int32} {k : Int32 → Int32 → Int32 → Nat → Nat → Nat → Bool} (h : sm_split v f A B C p0 p1 k = true) (hp : ∀ r v f A B C, k r v f A B C = true → post r (v, f, sm_d A, sm_d B, sm_d C)) : wpX_splitEdge post (v, f, sm_d A, sm_d B, sm_d C) p0 p1 := by
  unfold sm_split at h
  unfold wpX_splitEdge
  refine sm_find_ok h (fun r1 h => sm_if h (fun h => sm_fv_ok h (fun r3 h => sm_ifF h (fun h => ?_))) (hp _ _ _ _ _ _))
  refine sm_rdE (by decide) h (fun x5 h => sm_third_ok h (fun r7 h => sm_third_ok h (fun r8 h => sm_next_ok (sm_bef_ok (sm_next_ok (sm_bef_ok ?_))))))
  refine sm_rdE (by decide) h (fun x12 h => sm_rdE (by decide) h (fun x13 h => sm_rdE (by decide) h (fun x14 h => sm_rdE (by decide) h (fun x15 h => ⟨by decide, nm_e ⟨by decide, nm_e ?_⟩⟩))))
  refine sm_nf_ok (sm_qI (sm_qI h) :) (fun r25 f1 h => sm_nf_ok h (fun r37 f2 h => ?_))
  refine sm_write_ok h (fun A1 h => sm_write_ok h (fun A2 h => sm_write_ok h (fun A3 h => sm_write_ok h (fun A4 h => ?_))))
  refine sm_link_ok h (fun B1 h => sm_link_ok h (fun B2 h => sm_link_ok h (fun B3 h => sm_link_ok h (fun B4 h => ?_))))
  refine sm_link_ok h (fun B5 h => sm_link_ok h (fun B6 h => sm_link_ok h (fun B7 h => sm_link_ok h (fun B8 h => nm_e ?_))))
  exact sm_refresh_ok (sm_qI h :) (fun C1 h => hp _ _ _ _ _ _ h)
/-- splitFace, where there is no such edge -/
noncomputable def sm_sface (v : Int32) (A B C : Nat) (p0 p1 : Int32) (k : Bool) : Bool := sm_find v A B C p0 p1 (fun r => if r < 0 then k else false)
theorem sm_sface_ok {post : Int32 → St2 → Prop} {v f : Int32} {A B C : Nat} {p0 p1 p2 : Int32} {k : Bool} (h : sm_sface v A B C p0 p1 k = true) (hp : k = true → post (-1) (v, f, sm_d A, sm_d B, sm_d C)) : wpX_splitFace post (v, f, sm_d A, sm_d B, sm_d C) p0 p1 p2 := by
  unfold sm_sface at h
  unfold wpX_splitFace
  exact sm_find_ok h (fun r1 h => sm_ifT h hp)
/-- around -/
noncomputable def sm_a61 (A B : Nat) (x3 : Int32) (k : Int32 → Bool) : Nat → Int32 → Int32 → Bool
  | 0 => fun _ _ => false
  | n + 1 => fun x4 x5 => if (-x3) ≤ x5 then sm_to A x4 k else sm_rd B 48 x4 (fun y => sm_q (sm_next y) (fun w => sm_q (x5 + 1) (fun z => sm_a61 A B x3 k n w z)))
theorem sm_a61_ok {post : Int32 → Prop} {v f x3 : Int32} {A B : Nat} {c : Nat → Int32} {k : Int32 → Bool} (hp : ∀ r, k r = true → post r) : ∀ (n : Nat) (x4 x5 : Int32), sm_a61 A B x3 k n x4 x5 = true → wX_around_61 post x3 v f (sm_d A) (sm_d B) c n x4 x5 := by
  intro n
  induction n with
  | zero => intro x4 x5 h; exact absurd h Bool.false_ne_true
  | succ n ih =>
    intro x4 x5 h
    exact sm_if h (fun h => sm_to_ok h hp) (fun h => sm_rdE (by decide) h (fun y h => sm_next_ok (nm_e (ih _ _ (sm_qI (sm_qI h) :)))))
noncomputable def sm_a30 (A B : Nat) (x3 : Int32) (k : Int32 → Bool) : Nat → Int32 → Int32 → Bool
  | 0 => fun _ _ => false
  | n + 1 => fun x4 x5 => if x3 ≤ x5 then sm_a61 A B x3 k 21 x4 0 else sm_rd B 48 (sm_bef x4) (fun y => sm_q (x5 + 1) (fun z => sm_a30 A B x3 k n y z))
theorem sm_a30_ok {post : Int32 → Prop} {v f x3 : Int32} {A B : Nat} {c : Nat → Int32} {k : Int32 → Bool} (hp : ∀ r, k r = true → post r) : ∀ (n : Nat) (x4 x5 : Int32), sm_a30 A B x3 k n x4 x5 = true → wX_around_30 post x3 v f (sm_d A) (sm_d B) c n x4 x5 := by
  intro n
  induction n with
  | zero => intro x4 x5 h; exact absurd h Bool.false_ne_true
  | succ n ih =>
    intro x4 x5 h
    refine sm_if h (fun h => ⟨21, sm_a61_ok hp 21 x4 0 h⟩) (fun h => sm_bef_ok ?_)
    exact sm_rdE (by decide) h (fun y h => nm_e (ih _ _ (sm_qI h :)))
noncomputable def sm_around (v : Int32) (A B C : Nat) (p0 p1 p2 : Int32) (k : Int32 → Bool) : Bool := sm_find v A B C p0 p1 (fun r => if r < 0 then false else if p2 < (-20) then false else if p2 ≤ 20 then sm_a30 A B p2 k 21 r 0 else false)
theorem sm_around_ok {post : Int32 → Prop} {v f : Int32} {A B C : Nat} {p0 p1 p2 : Int32} {k : Int32 → Bool} (h : sm_around v A B C p0 p1 p2 k = true) (hp : ∀ r, k r = true → post r) : wpX_around post (v, f, sm_d A, sm_d B, sm_d C) p0 p1 p2 := by
  unfold sm_around at h
  unfold wpX_around
  exact sm_find_ok h (fun r h => sm_ifF h (fun h => sm_ifF h (fun h => sm_ifT h (fun h => ⟨21, sm_a30_ok hp 21 r 0 h⟩))))
noncomputable def sm_canF (v : Int32) (A B C : Nat) (p0 : Int32) (k : Int32 → Bool) : Bool := sm_third A p0 (fun r1 => sm_rd B 48 p0 (fun g => sm_third A g (fun r3 => if r1 = r3 then k 0 else sm_find v A B C r1 r3 (fun r5 => if 0 ≤ r5 then k 0 else k 1))))
theorem sm_canF_ok {post : Int32 → Prop} {v f : Int32} {A B C : Nat} {p0 : Int32} {k : Int32 → Bool} (h : sm_canF v A B C p0 k = true) (hp : ∀ r, k r = true → post r) : wpX_canFlip post (v, f, sm_d A, sm_d B, sm_d C) p0 := by
  unfold sm_canF at h
  unfold wpX_canFlip
  refine sm_third_ok h (fun r1 h => ?_)
  have t := sm_rdI (by decide) h
  exact ⟨t.1, sm_third_ok t.2 (fun r3 h => sm_if h (hp _) (fun h => sm_find_ok h (fun r5 h => sm_if h (hp _) (hp _))))⟩
/-- flip, where it is refused -/
noncomputable def sm_flip (v : Int32) (A B C : Nat) (p0 p1 : Int32) (k : Bool) : Bool := sm_find v A B C p0 p1 (fun r1 => if 0 ≤ r1 then sm_canF v A B C r1 (fun r3 => if r3 = 0 then k else false) else false)
theorem sm_flip_ok {post : Int32 → St2 → Prop} {v f : Int32} {A B C : Nat} {p0 p1 : Int32} {k : Bool} (h : sm_flip v A B C p0 p1 k = true) (hp : k = true → post (-3) (v, f, sm_d A, sm_d B, sm_d C)) : wpX_flip post (v, f, sm_d A, sm_d B, sm_d C) p0 p1 := by
  unfold sm_flip at h
  unfold wpX_flip
  exact sm_find_ok h (fun r1 h => sm_ifT h (fun h => sm_canF_ok h (fun r3 h => sm_ifT h hp)))
/-- ofDegree -/
noncomputable def sm_o4d (v : Int32) (A B C : Nat) (x1 : Int32) (k : Int32 → Bool) : Nat → Int32 → Int32 → Bool
  | 0 => fun _ _ => false
  | n + 1 => fun x2 x3 => if 10 ≤ x3 then k x2 else sm_joined v A B C x3 (fun r2 => if sm_isV v x3 = 0 then sm_q (x3 + 1) (fun z => sm_o4d v A B C x1 k n (x2 + 0) z) else sm_ones r2 (fun r7 => if r7 = x1 then sm_q (x2 + 1) (fun w => sm_q (x3 + 1) (fun z => sm_o4d v A B C x1 k n w z)) else sm_q (x3 + 1) (fun z => sm_o4d v A B C x1 k n (x2 + 0) z)))
theorem sm_o4d_ok {post : Int32 → Prop} {v f x1 : Int32} {A B C : Nat} {k : Int32 → Bool} (hp : ∀ r, k r = true → post r) : ∀ (n : Nat) (x2 x3 : Int32), sm_o4d v A B C x1 k n x2 x3 = true → wX_ofDegree_4 post x1 v f (sm_d A) (sm_d B) (sm_d C) n x2 x3 := by
  intro n
  induction n with
  | zero => intro x2 x3 h; exact absurd h Bool.false_ne_true
  | succ n ih =>
    intro x2 x3 h
    refine sm_if h (hp _) (fun h => sm_joined_ok h (fun r2 h => sm_isV_ok (sm_if h (fun h => nm_e (nm_e (ih _ _ (sm_qI h :)))) (fun h => ?_))))
    exact sm_ones_ok h (fun r7 h => sm_if h (fun h => nm_e (nm_e (ih _ _ (sm_qI (sm_qI h) :)))) (fun h => nm_e (nm_e (ih _ _ (sm_qI h :)))))
theorem sm_ofD_ok {post : Int32 → Prop} {v f x1 : Int32} {A B C : Nat} {k : Int32 → Bool} (h : sm_o4d v A B C x1 k 11 0 0 = true) (hp : ∀ r, k r = true → post r) : wpX_ofDegree post (v, f, sm_d A, sm_d B, sm_d C) x1 :=
  ⟨11, sm_o4d_ok hp 11 0 0 h⟩
/-- the constructor -/
noncomputable def sm_init (k : Int32 → Int32 → Nat → Nat → Nat → Bool) : Bool :=
  sm_write 0 0 0 1 2 (fun A => sm_write A 1 0 2 3 (fun A => sm_write A 2 0 3 1 (fun A => sm_write A 3 1 3 2 (fun A =>
  sm_link 0 0 8 (fun B => sm_link B 1 11 (fun B => sm_link B 2 3 (fun B => sm_link B 4 10 (fun B => sm_link B 5 6 (fun B => sm_link B 7 9 (fun B =>
  sm_refresh 15 A 0 (fun C => k 15 15 A B C)))))))))))
theorem sm_init_ok {post : St2 → Prop} {mc ms : Nat} {k : Int32 → Int32 → Nat → Nat → Nat → Bool} (hc : 3 ≤ mc) (hs : 106 ≤ ms) (h : sm_init k = true) (hp : ∀ v f A B C, k v f A B C = true → post (v, f, sm_d A, sm_d B, sm_d C)) : wpX_init post mc ms (0, 0) := by
  unfold sm_init at h
  unfold wpX_init
  refine ⟨by omega, by omega, by omega, by omega, hc, hs, ?_⟩
  rw [sm_d0]
  refine sm_write_ok h (fun A1 h => sm_write_ok h (fun A2 h => sm_write_ok h (fun A3 h => sm_write_ok h (fun A4 h => ?_))))
  refine sm_link_ok h (fun B1 h => sm_link_ok h (fun B2 h => sm_link_ok h (fun B3 h => sm_link_ok h (fun B4 h => sm_link_ok h (fun B5 h => sm_link_ok h (fun B6 h => ?_))))))
  exact sm_refresh_ok h (fun C1 h => hp _ _ _ _ _ h)
end
section
noncomputable def sm_l462 (x4 x5 x6 x8 x12 z0 v f : Int32) (A B C : Nat) : Bool :=
  sm_collapse v f A B C z0 x12 (fun r v f A B C => if r = 3 + x4 then sm_ones f (fun r => if r = 2 + 2 * x4 then sm_joined v A B C x12 (fun r => if r = 0 then sm_dist v A B C x5 x12 (fun r => if r = -1 then
    sm_split v f A B C x5 x12 (fun r v f A B C => if r = -1 then sm_collapse v f A B C x5 x12 (fun r v f A B C => if r = -1 then
    sm_sface v A B C x5 x12 (sm_split v f A B C x5 x8 (fun r _ _ _ _ _ => if r = x12 then true else false)) else false) else false) else false) else false) else false) else false)
theorem sm_l462_ok {post : Int32 → St0 → Prop} {mc ms kc ks : Nat} {x4 x5 x6 x8 x12 z0 v f : Int32} {A B C : Nat} (h1 : post 1 ()) (h : sm_l462 x4 x5 x6 x8 x12 z0 v f A B C = true) : wL_lawOf_462 post mc ms x4 x5 x6 x8 1 x12 z0 kc ks v f (sm_d A) (sm_d B) (sm_d C) := by
  unfold sm_l462 at h
  unfold wL_lawOf_462
  refine sm_collapse_ok h (fun r v f A B C h => br_f (by decide) (sm_ifT h (fun h => sm_faces_ok h (fun r h => sm_ifT h (fun h => sm_joined_ok h (fun r h => sm_ifT h (fun h => sm_dist_ok h (fun r h => sm_ifT h (fun h => ?_)))))))))
  refine sm_split_ok h (fun r v f A B C h => sm_ifT h (fun h => sm_collapse_ok h (fun r v f A B C h => sm_ifT h (fun h => sm_sface_ok h (fun h => br_t rfl ?_)))))
  exact sm_split_ok h (fun r _ _ _ _ _ h => sm_ifT h (fun _ => h1))
noncomputable def sm_all : Nat → (Nat → Bool) → Bool
  | 0 => fun _ => true
  | n + 1 => fun p => p n && sm_all n p
theorem sm_all_ok {p : Nat → Bool} : ∀ n, sm_all n p = true → ∀ t, t < n → p t = true := by
  intro n
  induction n with
  | zero => intro _ t ht; exact absurd ht (by omega)
  | succ n ih =>
    intro h t ht
    have h' : (p n && sm_all n p) = true := h
    rw [Bool.and_eq_true] at h'
    by_cases e : t = n
    · rw [e]; exact h'.1
    · exact ih h'.2 t (by omega)
noncomputable def sm_l433 (n : Nat) (x4 x5 x6 x8 v f : Int32) (A B C : Nat) : Bool :=
  sm_all n (fun t => sm_q (4 + nI t) (fun x12 => if x12 = 4 then sm_l462 x4 x5 x6 x8 x12 x6 v f A B C else sm_q (x12 - 1) (fun z => sm_l462 x4 x5 x6 x8 x12 z v f A B C)))
theorem sm_mod (x : Int32) {n : Nat} (h0 : 0 < n) (hn : n ≤ 6) : ∃ t, t < n ∧ (x &&& 65535) - (x &&& 65535) / nI n * nI n = nI t := by
  obtain ⟨j, hj, e⟩ := pk_andE x (m := 65535) 16 (by decide)
  rw [e, pk_rem (by omega) h0 (by omega)]
  exact ⟨j % n, Nat.mod_lt _ h0, rfl⟩
theorem sm_l433_ok {post : Int32 → St0 → Prop} {mc ms kc ks n : Nat} {x2 x5 x6 x8 v f : Int32} {A B C : Nat} (h0 : 0 < n) (hn : n ≤ 6) (h1 : post 1 ()) (h : sm_l433 n (nI n) x5 x6 x8 v f A B C = true) : wL_lawOf_433 post mc ms x2 (nI n) x5 x6 x8 1 kc ks v f (sm_d A) (sm_d B) (sm_d C) := by
  unfold sm_l433 at h
  unfold wL_lawOf_433
  refine ⟨nI_ne0 h0 (by omega), fun x12 ex => ?_⟩
  obtain ⟨t, ht, e⟩ := sm_mod x2 h0 hn
  rw [e] at ex
  have h2 := sm_qI (sm_all_ok n h t ht)
  rw [ex]
  exact sm_if h2 (fun h => sm_l462_ok h1 h) (fun h => sm_l462_ok h1 (sm_qI h :))
noncomputable def sm_l249 (n : Nat) (x4 x5 x6 x7 x8 v f : Int32) (A B C : Nat) : Nat → Int32 → Bool
  | 0 => fun _ => false
  | m + 1 => fun x12 => if 6 ≤ x12 then
      sm_around v A B C x5 x6 (x4 + 1) (fun r => if r = x7 then sm_around v A B C x5 x6 (x4 + 2) (fun r => if r = x8 then sm_around v A B C x5 x6 (x4 + 3) (fun r => if r = x6 then sm_flip v A B C x5 x6 (sm_l433 n x4 x5 x6 x8 v f A B C) else false) else false) else false)
    else if x4 ≤ x12 then sm_q (x12 + 1) (fun z => sm_l249 n x4 x5 x6 x7 x8 v f A B C m z)
    else sm_around v A B C x5 x6 (x12 + 1) (fun r => sm_around v A B C x5 (4 + x12) ((-x12) - 1) (fun r' => if r = 4 + x12 then if r' = x6 then
      sm_opp v A B C x5 (4 + x12) (fun q => if x4 ≤ x12 + 1 then if q = x7 then sm_q (x12 + 1) (fun z => sm_l249 n x4 x5 x6 x7 x8 v f A B C m z) else false else if q = 5 + x12 then sm_q (x12 + 1) (fun z => sm_l249 n x4 x5 x6 x7 x8 v f A B C m z) else false) else false else false))
theorem sm_l249_ok {post : Int32 → St0 → Prop} {mc ms kc ks n : Nat} {x2 x5 x6 x7 x8 v f : Int32} {A B C : Nat} (h0 : 0 < n) (hn : n ≤ 6) (h1 : post 1 ()) : ∀ (m : Nat) (x12 : Int32), sm_l249 n (nI n) x5 x6 x7 x8 v f A B C m x12 = true → wL_lawOf_249 post mc ms x2 (nI n) x5 x6 x7 x8 kc ks v f (sm_d A) (sm_d B) (sm_d C) m 1 x12 := by
  intro m
  induction m with
  | zero => intro x12 h; exact absurd h Bool.false_ne_true
  | succ m ih =>
    intro x12 h
    refine sm_if h (fun h => br_f (by decide) ?_) (fun h => sm_if h (fun h => nm_e (ih _ (sm_qI h :))) (fun h => ?_))
    · refine sm_around_ok h (fun r h => sm_ifT h (fun h => sm_around_ok h (fun r h => sm_ifT h (fun h => sm_around_ok h (fun r h => sm_ifT h (fun h => ?_))))))
      exact sm_flip_ok h (fun h => br_t rfl (sm_l433_ok h0 hn h1 h))
    · refine sm_around_ok h (fun r h => sm_around_ok h (fun r' h => br_f (by decide) (sm_ifT h (fun h => sm_ifT h (fun h => sm_opp_ok h (fun q h => ?_))))))
      refine sm_if h (fun h => ?_) (fun h => ?_)
      · exact sm_ifT h (fun h => nm_e (ih _ (sm_qI h :)))
      · exact sm_ifT h (fun h => nm_e (ih _ (sm_qI h :)))
noncomputable def sm_l224 (n : Nat) (x4 x5 x6 x7 x8 z0 z1 v f : Int32) (A B C : Nat) : Bool := if z1 = z0 then sm_dist v A B C x6 x7 (fun r => if r = 2 then sm_l249 n x4 x5 x6 x7 x8 v f A B C 7 0 else false) else false
theorem sm_l224_ok {post : Int32 → St0 → Prop} {mc ms kc ks n : Nat} {x2 x5 x6 x7 x8 z0 z1 v f : Int32} {A B C : Nat} (h0 : 0 < n) (hn : n ≤ 6) (h1 : post 1 ()) (h : sm_l224 n (nI n) x5 x6 x7 x8 z0 z1 v f A B C = true) : wL_lawOf_224 post mc ms x2 (nI n) x5 x6 x7 x8 z0 z1 kc ks v f (sm_d A) (sm_d B) (sm_d C) := by
  unfold sm_l224 at h
  unfold wL_lawOf_224
  exact sm_ifT h (fun h => sm_dist_ok h (fun r h => sm_ifT h (fun h => ⟨7, sm_l249_ok h0 hn h1 7 0 h⟩)))
noncomputable def sm_l65 (n : Nat) (x4 x5 x6 x7 x8 : Int32) : Nat → Int32 → Int32 → Int32 → Int32 → Nat → Nat → Nat → Bool
  | 0 => fun _ _ _ _ _ _ _ => false
  | m + 1 => fun x10 x11 v f A B C => if 6 ≤ x11 then sm_q (((1 : Int32) <<< ((4 + x4) &&& 31)) - 1) (fun al => if v = al then sm_ones f (fun r => if r = 4 + 2 * x4 then
      sm_joined v A B C x5 (fun r => if r = al &&& (((1 : Int32) <<< (x5 &&& 31)) ^^^ (-1)) then sm_joined v A B C x8 (fun r => if r = al &&& (((1 : Int32) <<< (x8 &&& 31)) ^^^ (-1)) then
      sm_around v A B C x5 x6 0 (fun r => if r = x6 then sm_o4d v A B C 4 (fun r => if x4 = 1 then sm_l224 n x4 x5 x6 x7 x8 3 r v f A B C else sm_l224 n x4 x5 x6 x7 x8 x4 r v f A B C) 11 0 0 else false) else false) else false) else false) else false)
    else if x4 ≤ x11 then sm_q (x11 + 1) (fun z => sm_l65 n x4 x5 x6 x7 x8 m x10 z v f A B C)
    else sm_split v f A B C x10 x7 (fun r v f A B C => if r = 4 + x11 then sm_q (x11 + 1) (fun z => sm_l65 n x4 x5 x6 x7 x8 m r z v f A B C) else false)
theorem sm_l65_ok {post : Int32 → St0 → Prop} {mc ms kc ks n : Nat} {x2 x5 x6 x7 x8 : Int32} (h0 : 0 < n) (hn : n ≤ 6) (h1 : post 1 ()) : ∀ (m : Nat) (x10 x11 v f : Int32) (A B C : Nat), sm_l65 n (nI n) x5 x6 x7 x8 m x10 x11 v f A B C = true → wL_lawOf_65 post mc ms x2 (nI n) x5 x6 x7 x8 kc ks m 1 x10 x11 v f (sm_d A) (sm_d B) (sm_d C) := by
  intro m
  induction m with
  | zero => intro x10 x11 v f A B C h; exact absurd h Bool.false_ne_true
  | succ m ih =>
    intro x10 x11 v f A B C h
    refine sm_if h (fun h => nm_e (br_f (by decide) ?_)) (fun h => sm_if h (fun h => nm_e (ih _ _ _ _ _ _ _ (sm_qI h :))) (fun h => ?_))
    · refine sm_ifT (sm_qI h :) (fun h => sm_faces_ok h (fun r h => sm_ifT h (fun h => sm_joined_ok h (fun r h => sm_ifT h (fun h => sm_joined_ok h (fun r h => sm_ifT h (fun h => ?_)))))))
      exact sm_around_ok h (fun r h => sm_ifT h (fun h => sm_ofD_ok h (fun r h => sm_if h (fun h => sm_l224_ok h0 hn h1 h) (fun h => sm_l224_ok h0 hn h1 h))))
    · exact sm_split_ok h (fun r v f A B C h => br_f (by decide) (sm_ifT h (fun h => nm_e (ih _ _ _ _ _ _ _ (sm_qI h :)))))
noncomputable def sm_law (n a : Nat) : Bool :=
  sm_init (fun v f A B C => sm_q ((nI a + 1) &&& 3) (fun x6 => sm_opp v A B C (nI a) x6 (fun r => sm_q (((6 - nI a) - x6) - r) (fun x8 => sm_l65 n (nI n) (nI a) x6 r x8 7 x6 0 v f A B C))))
theorem sm_law_ok {post : Int32 → St0 → Prop} {u : St0} {p0 p1 p2 : Int32} (hr : ∀ n a : Nat, n < 6 → a < 4 → sm_law (n + 1) a = true) (h1 : post 1 ()) : wpL_lawOf post 24 384 u p0 p1 p2 := by
  unfold wpL_lawOf
  refine ⟨by decide, by decide, 23, 379, by decide, by decide, ?_⟩
  obtain ⟨t, ht, e⟩ := sm_mod p0 (n := 6) (by decide) (by decide)
  obtain ⟨a, ha, ea⟩ := pk_andE p1 (m := 3) 2 (by decide)
  have h := hr t a ht ha
  unfold sm_law at h
  refine sm_init_ok (by decide) (by decide) h (fun v f A B C h => ⟨by decide, fun x4 e4 => ?_⟩)
  have e4' : x4 = nI (t + 1) := by
    rw [e4, Nat.add_comm t 1, ← nI_add]
    exact congrArg (fun z => 1 + z) e
  rw [e4']
  refine nm_r ea (nm_e ?_)
  exact sm_opp_ok (sm_qI h :) (fun r h => nm_e ⟨7, sm_l65_ok (by omega) (by omega) h1 7 _ _ _ _ _ _ _ (sm_qI h :)⟩)
end
section
theorem sm_run1_0 : sm_law 1 0 = true := by decide +kernel
theorem sm_run1_1 : sm_law 1 1 = true := by decide +kernel
theorem sm_run1_2 : sm_law 1 2 = true := by decide +kernel
theorem sm_run1_3 : sm_law 1 3 = true := by decide +kernel
theorem sm_run2_0 : sm_law 2 0 = true := by decide +kernel
theorem sm_run2_1 : sm_law 2 1 = true := by decide +kernel
theorem sm_run2_2 : sm_law 2 2 = true := by decide +kernel
theorem sm_run2_3 : sm_law 2 3 = true := by decide +kernel
theorem sm_run3_0 : sm_law 3 0 = true := by decide +kernel
theorem sm_run3_1 : sm_law 3 1 = true := by decide +kernel
theorem sm_run3_2 : sm_law 3 2 = true := by decide +kernel
theorem sm_run3_3 : sm_law 3 3 = true := by decide +kernel
theorem sm_run4_0 : sm_law 4 0 = true := by decide +kernel
theorem sm_run4_1 : sm_law 4 1 = true := by decide +kernel
theorem sm_run4_2 : sm_law 4 2 = true := by decide +kernel
theorem sm_run4_3 : sm_law 4 3 = true := by decide +kernel
theorem sm_run5_0 : sm_law 5 0 = true := by decide +kernel
theorem sm_run5_1 : sm_law 5 1 = true := by decide +kernel
theorem sm_run5_2 : sm_law 5 2 = true := by decide +kernel
theorem sm_run5_3 : sm_law 5 3 = true := by decide +kernel
theorem sm_run6_0 : sm_law 6 0 = true := by decide +kernel
theorem sm_run6_1 : sm_law 6 1 = true := by decide +kernel
theorem sm_run6_2 : sm_law 6 2 = true := by decide +kernel
theorem sm_run6_3 : sm_law 6 3 = true := by decide +kernel
theorem sm_run : ∀ n a : Nat, n < 6 → a < 4 → sm_law (n + 1) a = true := by
  intro n a hn ha
  match n, a, hn, ha with
  | 0, 0, _, _ => exact sm_run1_0
  | 0, 1, _, _ => exact sm_run1_1
  | 0, 2, _, _ => exact sm_run1_2
  | 0, 3, _, _ => exact sm_run1_3
  | 1, 0, _, _ => exact sm_run2_0
  | 1, 1, _, _ => exact sm_run2_1
  | 1, 2, _, _ => exact sm_run2_2
  | 1, 3, _, _ => exact sm_run2_3
  | 2, 0, _, _ => exact sm_run3_0
  | 2, 1, _, _ => exact sm_run3_1
  | 2, 2, _, _ => exact sm_run3_2
  | 2, 3, _, _ => exact sm_run3_3
  | 3, 0, _, _ => exact sm_run4_0
  | 3, 1, _, _ => exact sm_run4_1
  | 3, 2, _, _ => exact sm_run4_2
  | 3, 3, _, _ => exact sm_run4_3
  | 4, 0, _, _ => exact sm_run5_0
  | 4, 1, _, _ => exact sm_run5_1
  | 4, 2, _, _ => exact sm_run5_2
  | 4, 3, _, _ => exact sm_run5_3
  | 5, 0, _, _ => exact sm_run6_0
  | 5, 1, _, _ => exact sm_run6_1
  | 5, 2, _, _ => exact sm_run6_2
  | 5, 3, _, _ => exact sm_run6_3
  | _ + 6, _, h, _ => omega
  | _, _ + 4, _, h => omega
end
section
theorem sm_cell {post : Int32 → Prop} {L : Nat} {xs : Nat → Int32} {u : St0} {p : Nat} (hL : L ≤ 3) (hp3 : p < 3) (hp : ∀ x, post x) : wpL_cellAt post L xs u (nI p) := by
  unfold wpL_cellAt
  exact pk_le L p (fun _ => hp _) (fun z => ⟨vp_in_nI z (by omega), hp _⟩)
theorem i_vc (xs : Nat → Int32) (L : Nat) (hL : L ≤ 3) : wpL_law (fun r => r = 1) L xs := by
  unfold wpL_law
  refine sm_cell (p := 0) hL (by decide) (fun x0 => ?_)
  refine sm_cell (p := 1) hL (by decide) (fun x1 => ?_)
  refine sm_cell (p := 2) hL (by decide) (fun x2 => ?_)
  exact ⟨24, 384, by decide, by decide, sm_law_ok sm_run rfl⟩
end
