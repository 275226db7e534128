section
/-! bits of a long, the pure side -/
/-- bit f of a word -/
def sd_b (w : Int64) (f : Nat) : Bool := w.toBitVec.getLsbD f
/-- a bit as an int -/
def sd_i : Bool → Int32
  | true => 1
  | false => 0
/-- a bit spread over a word -/
def sd_w : Bool → Int64
  | true => -1
  | false => 0
/-- what stuck answers -/
def sd_sk (l : Nat) (w : Int64) : Int64 := (w &&& (((1 : Int64) <<< ((2 * nI l).toInt64 &&& 63)) ^^^ (-1))) ||| ((1 : Int64) <<< (((2 * nI l) + 1).toInt64 &&& 63))
theorem sd_b_and (x y : Int64) (f : Nat) : sd_b (x &&& y) f = (sd_b x f && sd_b y f) := by
  unfold sd_b
  rw [Int64.toBitVec_and, BitVec.getLsbD_and]
theorem sd_b_or (x y : Int64) (f : Nat) : sd_b (x ||| y) f = (sd_b x f || sd_b y f) := by
  unfold sd_b
  rw [Int64.toBitVec_or, BitVec.getLsbD_or]
theorem sd_b_xor (x y : Int64) (f : Nat) : sd_b (x ^^^ y) f = (sd_b x f ^^ sd_b y f) := by
  unfold sd_b
  rw [Int64.toBitVec_xor, BitVec.getLsbD_xor]
theorem sd_b_m1 : ∀ f, f < 64 → sd_b (-1) f = true := by decide +kernel
theorem sd_b_0 : ∀ f, f < 64 → sd_b 0 f = false := by decide +kernel
theorem sd_b_not (x : Int64) {f : Nat} (hf : f < 64) : sd_b (x ^^^ (-1)) f = !sd_b x f := by
  rw [sd_b_xor, sd_b_m1 f hf, Bool.xor_true]
theorem sd_b_w (b : Bool) {f : Nat} (hf : f < 64) : sd_b (sd_w b) f = b := by
  cases b
  · exact sd_b_0 f hf
  · exact sd_b_m1 f hf
theorem sd_p0 : ∀ l, l < 8 → ∀ f, f < 64 → sd_b ((1 : Int64) <<< ((2 * nI l).toInt64 &&& 63)) f = decide (f = 2 * l) := by decide +kernel
theorem sd_p1 : ∀ l, l < 8 → ∀ f, f < 64 → sd_b ((1 : Int64) <<< (((2 * nI l) + 1).toInt64 &&& 63)) f = decide (f = 2 * l + 1) := by decide +kernel
theorem sd_b_sk {l f : Nat} (hl : l < 8) (hf : f < 64) (w : Int64) : sd_b (sd_sk l w) f = if f / 2 = l then decide (f % 2 = 1) else sd_b w f := by
  unfold sd_sk
  rw [sd_b_or, sd_b_and, sd_b_not _ hf, sd_p0 l hl f hf, sd_p1 l hl f hf]
  by_cases h : f / 2 = l
  · rw [if_pos h]
    by_cases h1 : f % 2 = 1
    · rw [decide_eq_true h1, decide_eq_true (show f = 2 * l + 1 by omega), Bool.or_true]
    · rw [decide_eq_false h1, decide_eq_false (show ¬ f = 2 * l + 1 by omega), decide_eq_true (show f = 2 * l by omega), Bool.not_true, Bool.and_false, Bool.or_false]
  · rw [if_neg h, decide_eq_false (show ¬ f = 2 * l + 1 by omega), decide_eq_false (show ¬ f = 2 * l by omega), Bool.not_false, Bool.and_true, Bool.or_false]
theorem sd_cu : ∀ k, k < 64 → ((nI k).toInt64.toUInt64 &&& Int64.toUInt64 63) = UInt64.ofNat k := by decide +kernel
/-- bit f of a word, as the class takes it -/
theorem sd_ext (w : Int64) {f : Nat} (hf : f < 64) : ((w.toUInt64 >>> ((nI f).toInt64.toUInt64 &&& Int64.toUInt64 63)).toInt64 &&& 1).toInt32 = sd_i (sd_b w f) := by
  rw [sd_cu f hf]
  have h1 : (UInt64.ofNat f).toNat = f := by
    show (BitVec.ofNat 64 f).toNat = f
    rw [BitVec.toNat_ofNat, Nat.mod_eq_of_lt (by omega)]
  have e : (w.toUInt64 >>> UInt64.ofNat f).toInt64.toBitVec = w.toBitVec >>> f := by
    apply BitVec.eq_of_toNat_eq
    show (w.toUInt64 >>> UInt64.ofNat f).toNat = _
    rw [UInt64.toNat_shiftRight, h1, Nat.mod_eq_of_lt hf, BitVec.toNat_ushiftRight]
    rfl
  have e2 : ((w.toUInt64 >>> UInt64.ofNat f).toInt64 &&& 1).toBitVec = BitVec.setWidth 64 (BitVec.ofBool (sd_b w f)) := by
    rw [Int64.toBitVec_and, e]
    show (w.toBitVec >>> f) &&& 1#64 = _
    rw [BitVec.and_one_eq_setWidth_ofBool_getLsbD, BitVec.getLsbD_ushiftRight, Nat.add_zero]
    rfl
  cases hb : sd_b w f with
  | true =>
    rw [hb] at e2
    rw [show ((w.toUInt64 >>> UInt64.ofNat f).toInt64 &&& 1) = 1 from Int64.toBitVec_inj.mp e2]
    rfl
  | false =>
    rw [hb] at e2
    rw [show ((w.toUInt64 >>> UInt64.ofNat f).toInt64 &&& 1) = 0 from Int64.toBitVec_inj.mp e2]
    rfl
/-- the sign of a word is its bit 63 -/
theorem sd_sg (x : Int64) : 0 ≤ x ↔ sd_b x 63 = false := by
  have h1 : x.toBitVec.msb = decide (x.toBitVec.toInt < 0) := BitVec.msb_eq_toInt
  have h2 : x.toBitVec.msb = sd_b x 63 := BitVec.msb_eq_getLsbD_last _
  rw [← h2, h1, Int64.le_iff_toInt_le, decide_eq_false_iff_not]
  show (0 : Int) ≤ x.toInt ↔ ¬ x.toInt < 0
  omega
/-- bit l of a pattern -/
theorem sd_pb : ∀ p, p < 128 → ∀ l, l < 7 → (nI p >>> (nI l &&& 31)) &&& 1 = sd_i (p.testBit l) := by decide +kernel
theorem sd_i1 {b : Bool} : sd_i b = 1 ↔ b = true := by
  cases b <;> decide
theorem sd_if {A B : Prop} {p l : Nat} (hp : p < 128) (hl : l < 7) (f : p.testBit l = true → A) (g : p.testBit l = false → B) : ((nI p >>> (nI l &&& 31)) &&& 1 = 1 → A) ∧ (¬ (nI p >>> (nI l &&& 31)) &&& 1 = 1 → B) := by
  rw [sd_pb p hp l hl, sd_i1]
  refine ⟨f, fun z => g ?_⟩
  cases h : p.testBit l
  · rfl
  · exact absurd h z
/-! five bits as an answer -/
def sd_sm (c : Nat → Bool) : Int32 := ((((sd_i (c 0)) + (2 * sd_i (c 1))) + (4 * sd_i (c 2))) + (8 * sd_i (c 3))) + (16 * sd_i (c 4))
def sd_acc (c : Nat → Bool) : Nat → Int32
  | 0 => 0
  | i + 1 => sd_acc c i + (sd_i (c i) <<< (nI i &&& 31))
theorem sd_sumE : ∀ b0 b1 b2 b3 b4 : Bool, (((((0 + (sd_i b0 <<< (nI 0 &&& 31))) + (sd_i b1 <<< (nI 1 &&& 31))) + (sd_i b2 <<< (nI 2 &&& 31))) + (sd_i b3 <<< (nI 3 &&& 31))) + (sd_i b4 <<< (nI 4 &&& 31))) = ((((sd_i b0) + (2 * sd_i b1)) + (4 * sd_i b2)) + (8 * sd_i b3)) + (16 * sd_i b4) := by decide +kernel
theorem sd_acc5 (c : Nat → Bool) : sd_acc c 5 = sd_sm c := sd_sumE (c 0) (c 1) (c 2) (c 3) (c 4)
theorem sd_sumF : ∀ b0 b1 b2 b3 b4 : Bool,
    ((((((sd_i b0) + (2 * sd_i b1)) + (4 * sd_i b2)) + (8 * sd_i b3)) + (16 * sd_i b4)) >>> (nI 0 &&& 31)) &&& 1 = sd_i b0 ∧
    ((((((sd_i b0) + (2 * sd_i b1)) + (4 * sd_i b2)) + (8 * sd_i b3)) + (16 * sd_i b4)) >>> (nI 1 &&& 31)) &&& 1 = sd_i b1 ∧
    ((((((sd_i b0) + (2 * sd_i b1)) + (4 * sd_i b2)) + (8 * sd_i b3)) + (16 * sd_i b4)) >>> (nI 2 &&& 31)) &&& 1 = sd_i b2 ∧
    ((((((sd_i b0) + (2 * sd_i b1)) + (4 * sd_i b2)) + (8 * sd_i b3)) + (16 * sd_i b4)) >>> (nI 3 &&& 31)) &&& 1 = sd_i b3 ∧
    ((((((sd_i b0) + (2 * sd_i b1)) + (4 * sd_i b2)) + (8 * sd_i b3)) + (16 * sd_i b4)) >>> (nI 4 &&& 31)) &&& 1 = sd_i b4 := by decide +kernel
theorem sd_sumB (c : Nat → Bool) {k : Nat} (hk : k < 5) : (sd_sm c >>> (nI k &&& 31)) &&& 1 = sd_i (c k) := by
  have h := sd_sumF (c 0) (c 1) (c 2) (c 3) (c 4)
  have hk' : k = 0 ∨ k = 1 ∨ k = 2 ∨ k = 3 ∨ k = 4 := by omega
  rcases hk' with rfl | rfl | rfl | rfl | rfl
  · exact h.1
  · exact h.2.1
  · exact h.2.2.1
  · exact h.2.2.2.1
  · exact h.2.2.2.2
theorem sd_i_inj {a b : Bool} (h : sd_i a = sd_i b) : a = b := by
  cases a <;> cases b <;> first | rfl | exact absurd h (by decide)
theorem sd_smEq {c r : Nat → Bool} : sd_sm c = sd_sm r ↔ ∀ k, k < 5 → c k = r k := by
  constructor
  · intro h k hk
    apply sd_i_inj
    rw [← sd_sumB c hk, ← sd_sumB r hk, h]
  · intro h
    unfold sd_sm
    rw [h 0 (by omega), h 1 (by omega), h 2 (by omega), h 3 (by omega), h 4 (by omega)]
theorem sd_stepL {c r : Nat → Bool} {b b' : Bool} {i : Nat} (h : b = true ↔ ∀ k, k < i → c k = r k) (hb : b' = true ↔ (b = true ∧ c i = r i)) : b' = true ↔ ∀ k, k < i + 1 → c k = r k := by
  rw [hb, h]
  constructor
  · intro z k hk
    by_cases e : k = i
    · rw [e]
      exact z.2
    · exact z.1 k (by omega)
  · intro z
    exact ⟨fun k hk => z k (by omega), z i (by omega)⟩
theorem sd_fill {F s : Nat → Int64} {i k : Nat} {x : Int64} (hk : k = i) (h : ∀ j, j < i → s j = F j) (hx : x = F i) : ∀ j, j < i + 1 → vp_updL s k x j = F j := by
  intro j hj
  rw [hk]
  by_cases e : j = i
  · rw [e, pk_uLs, hx]
  · rw [pk_uLn e]
    exact h j (by omega)
end
section
/-! the picture: what a line, the gate and the answers carry in the circuit with fault f (63: the healthy one) -/
/-- the value of a plain line -/
def sd_pl (p f l : Nat) : Bool := if f / 2 = l then decide (f % 2 = 1) else p.testBit l
/-- a gate over bits -/
def sd_mk : Nat → Bool → Bool → Bool
  | 0, x, y => x && y
  | 1, x, y => x || y
  | 2, x, y => x ^^ y
  | 3, x, y => !(x && y)
  | 4, x, y => !(x || y)
  | _ + 5, x, _ => !x
/-- a gate over words -/
def sd_cb : Nat → Int64 → Int64 → Int64
  | 0, x, y => x &&& y
  | 1, x, y => x ||| y
  | 2, x, y => x ^^^ y
  | 3, x, y => (x &&& y) ^^^ (-1)
  | 4, x, y => (x ||| y) ^^^ (-1)
  | _ + 5, x, _ => x ^^^ (-1)
theorem sd_b_cb {f : Nat} (hf : f < 64) (a b : Int64) : ∀ t, sd_b (sd_cb t a b) f = sd_mk t (sd_b a f) (sd_b b f)
  | 0 => sd_b_and a b f
  | 1 => sd_b_or a b f
  | 2 => sd_b_xor a b f
  | 3 => by
    show sd_b ((a &&& b) ^^^ (-1)) f = !(sd_b a f && sd_b b f)
    rw [sd_b_not _ hf, sd_b_and]
  | 4 => by
    show sd_b ((a ||| b) ^^^ (-1)) f = !(sd_b a f || sd_b b f)
    rw [sd_b_not _ hf, sd_b_or]
  | _ + 5 => sd_b_not a hf
/-- the value of the gate's line -/
def sd_gt (t x y p f : Nat) : Bool := if f / 2 = 7 then decide (f % 2 = 1) else sd_mk t (sd_pl p f x) (sd_pl p f y)
/-- bit k of the answer -/
def sd_an (t x y p f k : Nat) : Bool := if k = 3 then sd_gt t x y p f else if k = 4 then sd_pl p f 0 else sd_pl p f (4 + k)
/-- the word of a plain line -/
def sd_wv (p l : Nat) : Int64 := sd_sk l (sd_w (p.testBit l))
theorem sd_wv_t {p l : Nat} (e : p.testBit l = true) : sd_sk l (-1) = sd_wv p l := by
  unfold sd_wv
  rw [e]
  rfl
theorem sd_wv_f {p l : Nat} (e : p.testBit l = false) : sd_sk l 0 = sd_wv p l := by
  unfold sd_wv
  rw [e]
  rfl
theorem sd_w_t {b : Bool} (e : b = true) : (-1 : Int64) = sd_w b := by
  rw [e]
  rfl
theorem sd_w_f {b : Bool} (e : b = false) : (0 : Int64) = sd_w b := by
  rw [e]
  rfl
theorem sd_b_wv {p l f : Nat} (hl : l < 8) (hf : f < 64) : sd_b (sd_wv p l) f = sd_pl p f l := by
  unfold sd_wv sd_pl
  rw [sd_b_sk hl hf, sd_b_w _ hf]
theorem sd_b_gw {t x y p f : Nat} (hx : x < 7) (hy : y < 7) (hf : f < 64) : sd_b (sd_sk 7 (sd_cb t (sd_wv p x) (sd_wv p y))) f = sd_gt t x y p f := by
  unfold sd_gt
  rw [sd_b_sk (by omega) hf, sd_b_cb hf, sd_b_wv (by omega) hf, sd_b_wv (by omega) hf]
theorem sd_mk5 {t : Nat} {a b b' : Bool} (h : t = 5 ∨ b = b') : sd_mk t a b = sd_mk t a b' := by
  rcases h with rfl | rfl
  · rfl
  · rfl
theorem sd_gt5 {t x y y' p f : Nat} (h : t = 5 ∨ y' = y) : sd_gt t x y' p f = sd_gt t x y p f := by
  unfold sd_gt
  rw [sd_mk5 (t := t) (a := sd_pl p f x) (b := sd_pl p f y') (b' := sd_pl p f y) (h.imp id (fun e => by rw [e]))]
/-- the object holds the one gate, its feeds and its outputs -/
def sd_P (t x y : Nat) (a1 a2 a3 a4 a5 : Nat → Int32) : Prop :=
  t < 6 ∧ x < 7 ∧ y < 7 ∧ a1 0 = nI t ∧ a2 0 = nI x ∧ (∃ y', y' < 7 ∧ a3 0 = nI y' ∧ (t = 5 ∨ y' = y)) ∧ (∀ k, k < 3 → a4 k = nI (4 + k)) ∧ a5 0 = nI 7 ∧ a5 1 = nI 0
/-- the answers' words carry the picture in every circuit -/
def sd_A (t x y p : Nat) (s : Nat → Int64) : Prop := ∀ f, f < 64 → ∀ k, k < 5 → sd_b (s k) f = sd_an t x y p f k
theorem sd_A_of {t x y y' p : Nat} {s6 s7 s8 : Nat → Int64} (hx : x < 7) (hy : y' < 7) (e : t = 5 ∨ y' = y) (h6 : ∀ j, j < 7 → s6 j = sd_wv p j) (h67 : s6 7 = sd_sk 7 (sd_cb t (sd_wv p x) (sd_wv p y')))
    (h7 : ∀ j, j < 3 → s7 j = s6 (4 + j)) (h8 : ∀ j, j < 3 → s8 j = s7 j) (h83 : s8 3 = s6 7) (h84 : s8 4 = s6 0) : sd_A t x y p s8 := by
  intro f hf k hk
  unfold sd_an
  by_cases k3 : k = 3
  · rw [if_pos k3, k3, h83, h67, sd_b_gw hx hy hf, sd_gt5 e]
  · rw [if_neg k3]
    by_cases k4 : k = 4
    · rw [if_pos k4, k4, h84, h6 0 (by omega), sd_b_wv (by omega) hf]
    · rw [if_neg k4, h8 k (by omega), h7 k (by omega), h6 (4 + k) (by omega), sd_b_wv (by omega) hf]
/-! the law's own sums -/
/-- the law's name for a circuit: a fault, or -2 for the healthy one -/
def sd_F (F : Int32) (f : Nat) : Prop := (f < 16 ∧ F = nI f) ∨ (F = -2 ∧ f = 63)
theorem sd_f1 : ∀ f, f < 16 → nI f >>> ((1 : Int32) &&& 31) = nI (f / 2) := by decide +kernel
theorem sd_f2 : ∀ f, f < 16 → nI f &&& 1 = sd_i (decide (f % 2 = 1)) := by decide +kernel
theorem sd_f3 : ∀ l, l < 8 → ¬ (-2 : Int32) >>> ((1 : Int32) &&& 31) = nI l := by decide +kernel
theorem sd_plain {post : Int32 → Prop} {p l f : Nat} {F : Int32} (hp : p < 128) (hl : l < 7) (hF : sd_F F f) (H : post (sd_i (sd_pl p f l))) : wpL_plain post () (nI l) (nI p) F := by
  unfold wpL_plain
  rw [sd_pb p hp l hl]
  unfold sd_pl at H
  rcases hF with ⟨hf, rfl⟩ | ⟨rfl, rfl⟩
  · rw [sd_f1 f hf, sd_f2 f hf]
    refine pk_eq (f / 2) l (fun e => pk_lt f 0 (fun z => absurd z (by omega)) (fun _ => ?_)) (fun e => ?_)
    · rw [if_pos e] at H
      exact H
    · rw [if_neg e] at H
      exact H
  · rw [if_neg (show ¬ 63 / 2 = l by omega)] at H
    exact br_f (sd_f3 l (by omega)) H
theorem sd_m3 (a b : Bool) : 1 - (sd_i a &&& sd_i b) = sd_i (!(a && b)) := by cases a <;> cases b <;> decide
theorem sd_m4 (a b : Bool) : 1 - (sd_i a ||| sd_i b) = sd_i (!(a || b)) := by cases a <;> cases b <;> decide
theorem sd_m5 (a : Bool) : 1 - sd_i a = sd_i (!a) := by cases a <;> decide
theorem sd_m0 (a b : Bool) : sd_i a &&& sd_i b = sd_i (a && b) := by cases a <;> cases b <;> decide
theorem sd_m1 (a b : Bool) : sd_i a ||| sd_i b = sd_i (a || b) := by cases a <;> cases b <;> decide
theorem sd_m2 (a b : Bool) : sd_i a ^^^ sd_i b = sd_i (a ^^ b) := by cases a <;> cases b <;> decide
theorem sd_made {post : Int32 → Prop} {t : Nat} {a b : Bool} (ht : t < 6) (H : post (sd_i (sd_mk t a b))) : wpL_made post () (nI t) (sd_i a) (sd_i b) := by
  unfold wpL_made
  rw [sd_m3, sd_m4, sd_m5, sd_m0, sd_m1, sd_m2]
  have h : t = 0 ∨ t = 1 ∨ t = 2 ∨ t = 3 ∨ t = 4 ∨ t = 5 := by omega
  rcases h with rfl | rfl | rfl | rfl | rfl | rfl
  · exact br_t (by decide) H
  · exact br_f (by decide) (br_t (by decide) H)
  · exact br_f (by decide) (br_f (by decide) (br_t (by decide) H))
  · exact br_f (by decide) (br_f (by decide) (br_f (by decide) (br_t (by decide) H)))
  · exact br_f (by decide) (br_f (by decide) (br_f (by decide) (br_f (by decide) (br_t (by decide) H))))
  · exact br_f (by decide) (br_f (by decide) (br_f (by decide) (br_f (by decide) (br_f (by decide) H))))
theorem sd_due42 {post : Int32 → Prop} {p f : Nat} {F : Int32} {z : Bool} (hp : p < 128) (hF : sd_F F f) (H : post (((((sd_i (sd_pl p f 4)) + (2 * sd_i (sd_pl p f 5))) + (4 * sd_i (sd_pl p f 6))) + (8 * sd_i z)) + (16 * sd_i (sd_pl p f 0)))) : wL_due_42 post (nI p) F (sd_i z) :=
  sd_plain (l := 4) hp (by decide) hF (sd_plain (l := 5) hp (by decide) hF (sd_plain (l := 6) hp (by decide) hF (nm_e (sd_plain (l := 0) hp (by decide) hF H))))
theorem sd_due {post : Int32 → Prop} {t x y p f : Nat} {F : Int32} (ht : t < 6) (hx : x < 7) (hy : y < 7) (hp : p < 128) (hF : sd_F F f) (H : post (sd_sm (sd_an t x y p f))) : wpL_due post () (nI t) (nI x) (nI y) (nI p) F := by
  have H' : post (((((sd_i (sd_pl p f 4)) + (2 * sd_i (sd_pl p f 5))) + (4 * sd_i (sd_pl p f 6))) + (8 * sd_i (sd_gt t x y p f))) + (16 * sd_i (sd_pl p f 0))) := H
  unfold sd_gt at H'
  refine sd_plain hp hx hF (sd_plain hp hy hF ?_)
  rcases hF with ⟨hf, rfl⟩ | ⟨rfl, rfl⟩
  · rw [sd_f1 f hf, sd_f2 f hf]
    refine pk_eq (f / 2) 7 (fun e => ?_) (fun e => ?_)
    · rw [if_pos e] at H'
      exact sd_due42 hp (Or.inl ⟨hf, rfl⟩) H'
    · rw [if_neg e] at H'
      exact sd_made ht (sd_due42 hp (Or.inl ⟨hf, rfl⟩) H')
  · rw [if_neg (show ¬ 63 / 2 = 7 by omega)] at H'
    exact br_f (sd_f3 7 (by omega)) (sd_made ht (sd_due42 hp (Or.inr ⟨rfl, rfl⟩) H'))
end
section
/-! the class's methods -/
theorem sd_stuck {post : Int64 → Prop} {l : Nat} {w : Int64} (H : post (sd_sk l w)) : wpX_stuck post () (nI l) w := H
theorem sd_combine {post : Int64 → Prop} {t : Nat} {a b : Int64} (ht : t < 6) (H : post (sd_cb t a b)) : wpX_combine post () (nI t) a b := by
  have h : t = 0 ∨ t = 1 ∨ t = 2 ∨ t = 3 ∨ t = 4 ∨ t = 5 := by omega
  rcases h with rfl | rfl | rfl | rfl | rfl | rfl
  · exact br_t (by decide) H
  · exact br_f (by decide) (br_t (by decide) H)
  · exact br_f (by decide) (br_f (by decide) (br_t (by decide) H))
  · exact br_f (by decide) (br_f (by decide) (br_f (by decide) (br_t (by decide) H)))
  · exact br_f (by decide) (br_f (by decide) (br_f (by decide) (br_f (by decide) (br_t (by decide) H))))
  · exact br_f (by decide) (br_f (by decide) (br_f (by decide) (br_f (by decide) (br_f (by decide) H))))
section
variable {post : St2 → Prop} {g d nt gr : Int32} {lf lh : Int64} {a1 a2 a3 a4 a5 : Nat → Int32} {a6 a7 a8 a9 : Nat → Int64}
theorem sd_76s {n i t x y : Nat} (hi : i < 14) (hg : ¬ g ≤ nI i) (ht : t < 6) (hx : x < 21) (hy : y < 21) (h1 : a1 i = nI t) (h2 : a2 i = nI x) (h3 : a3 i = nI y)
    (H : wX_settle_76 post g d nt lf lh gr n (nI (i + 1)) a1 a2 a3 a4 a5 (vp_updL a6 (7 + i) (sd_sk (7 + i) (sd_cb t (a6 x) (a6 y)))) a7 a8 a9) :
    wX_settle_76 post g d nt lf lh gr (n + 1) (nI i) a1 a2 a3 a4 a5 a6 a7 a8 a9 := by
  have c : (nI i).toNatClampNeg = i := nI_clamp (by omega)
  have c7 : (nI (7 + i)).toNatClampNeg = 7 + i := nI_clamp (by omega)
  refine br_f hg ⟨pk_in i 14 hi, pk_in i 14 hi, ?_, pk_in i 14 hi, ?_, ?_⟩
  · rw [c]
    exact pk_in x 21 hx h2
  · rw [c]
    exact pk_in y 21 hy h3
  · rw [c, h1, h2, h3, nI_clamp (show x < 2 ^ 31 by omega), nI_clamp (show y < 2 ^ 31 by omega), show (7 : Int32) + nI i = nI (7 + i) from nI_add 7 i, c7]
    exact sd_combine ht (sd_stuck ⟨pk_in (7 + i) 21 (by omega), nm_e (nm_r (nI_1 i) H)⟩)
theorem sd_43 {p : Nat} (h7 : ∀ k, k < 3 → a7 k = sd_w (p.testBit (4 + k))) (h6 : ∀ j, j < 4 → a6 j = sd_wv p j)
    (H : ∀ s, (∀ j, j < 7 → s j = sd_wv p j) → ∃ n, wX_settle_76 post g d nt lf lh gr n 0 a1 a2 a3 a4 a5 s a7 a8 a9) :
    ∃ n, wX_settle_43 post g d nt lf lh gr n 0 a1 a2 a3 a4 a5 a6 a7 a8 a9 :=
  pk_loop (fun n i s => wX_settle_43 post g d nt lf lh gr n (nI i) a1 a2 a3 a4 a5 s a7 a8 a9) (fun i s => ∀ j, j < 4 + i → s j = sd_wv p j) 3 0 a6 (by omega) h6
    (fun n s h => pk_le 3 3 (fun _ => H s h) (fun z => absurd z (by omega)))
    (fun n i s hi h hw => pk_le 3 i (fun z => absurd z (by omega)) (fun _ => ⟨pk_in i 3 hi, by
      have c4 : (nI (4 + i)).toNatClampNeg = 4 + i := nI_clamp (by omega)
      rw [nI_clamp (show i < 2 ^ 31 by omega), h7 i hi, show (4 : Int32) + nI i = nI (4 + i) from nI_add 4 i, c4]
      exact sd_stuck ⟨pk_in (4 + i) 21 (by omega), nm_e (nm_r (nI_1 i) (hw _ (sd_fill rfl h rfl)))⟩⟩))
theorem sd_s2 {p : Nat} (hp : p < 128)
    (H : ∀ s, (∀ j, j < 4 → s j = sd_wv p j) → ∃ n, wX_settle_43 post g d nt lf lh gr n 0 a1 a2 a3 a4 a5 s a7 a8 a9) :
    ∃ n, wX_settle_2 post (nI p) g d nt lf lh gr n 0 a1 a2 a3 a4 a5 a6 a7 a8 a9 :=
  pk_loop (fun n i s => wX_settle_2 post (nI p) g d nt lf lh gr n (nI i) a1 a2 a3 a4 a5 s a7 a8 a9) (fun i s => ∀ j, j < i → s j = sd_wv p j) 4 0 a6 (by omega) lt_0
    (fun n s h => pk_le 4 4 (fun _ => H s h) (fun z => absurd z (by omega)))
    (fun n i s hi h hw => pk_le 4 i (fun z => absurd z (by omega)) (fun _ => sd_if hp (show i < 7 by omega)
      (fun e => sd_stuck ⟨pk_in i 21 (by omega), nm_e (nm_r (nI_1 i) (hw _ (sd_fill (nI_clamp (by omega)) h (sd_wv_t e))))⟩)
      (fun e => sd_stuck ⟨pk_in i 21 (by omega), nm_e (nm_r (nI_1 i) (hw _ (sd_fill (nI_clamp (by omega)) h (sd_wv_f e))))⟩)))
theorem sd_settle {p t x y : Nat} (hp : p < 128) (ht : t < 6) (hx : x < 7) (hy : y < 7) (h1 : a1 0 = nI t) (h2 : a2 0 = nI x) (h3 : a3 0 = nI y) (h7 : ∀ k, k < 3 → a7 k = sd_w (p.testBit (4 + k)))
    (H : ∀ s, (∀ j, j < 7 → s j = sd_wv p j) → s 7 = sd_sk 7 (sd_cb t (sd_wv p x) (sd_wv p y)) → post (1, d, nt, lf, lh, gr, a1, a2, a3, a4, a5, s, a7, a8, a9)) :
    wpX_settle post (1, d, nt, lf, lh, gr, a1, a2, a3, a4, a5, a6, a7, a8, a9) (nI p) :=
  sd_s2 hp (fun s hs => sd_43 h7 hs (fun s hs => ⟨2, sd_76s (i := 0) (by omega) (by decide) ht (by omega) (by omega) h1 h2 h3
    (pk_le 1 1 (fun _ => H _ (fun j hj => by rw [pk_uLn (by omega)]; exact hs j hj) (by rw [pk_uLs, hs x hx, hs y hy])) (fun z => absurd z (by omega)))⟩))
theorem sd_91 (h50 : a5 0 = nI 7) (h51 : a5 1 = nI 0) (H : ∀ s, (∀ j, j < 3 → s j = a7 j) → s 3 = a6 7 → s 4 = a6 0 → post (g, d, nt, lf, lh, gr, a1, a2, a3, a4, a5, a6, a7, s, a9)) :
    ∃ n, wX_runAll_91 post g d nt lf lh gr n 0 a1 a2 a3 a4 a5 a6 a7 a8 a9 :=
  pk_loop (fun n i s => wX_runAll_91 post g d nt lf lh gr n (nI i) a1 a2 a3 a4 a5 a6 a7 s a9) (fun i s => ∀ j, j < i → s j = a7 j) 3 0 a8 (by omega) lt_0
    (fun n s h => pk_le 3 3 (fun _ => ⟨pk_in 7 21 (by omega) h50, nm_r (e' := vp_updL s 3 (a6 7)) (by rw [h50, nI_clamp (by omega)]) ⟨pk_in 0 21 (by omega) h51, nm_r (e' := vp_updL (vp_updL s 3 (a6 7)) 4 (a6 0)) (by rw [h51, nI_clamp (by omega)])
      (H _ (fun j hj => by rw [pk_uLn (by omega), pk_uLn (by omega)]; exact h j hj) (by rw [pk_uLn (by omega), pk_uLs]) pk_uLs)⟩⟩) (fun z => absurd z (by omega)))
    (fun n i s hi h hw => pk_le 3 i (fun z => absurd z (by omega)) (fun _ => ⟨pk_in i 3 hi, pk_in i 5 (by omega), nm_e (nm_r (nI_1 i) (hw _ (sd_fill (nI_clamp (by omega)) h (by rw [nI_clamp (by omega)]))))⟩))
theorem sd_52 {J : Int32 → Int32 → Int32 → Int32 → Int64 → Int64 → Int32 → (Nat → Int32) → (Nat → Int32) → (Nat → Int32) → (Nat → Int32) → (Nat → Int32) → (Nat → Int64) → (Nat → Int64) → (Nat → Int64) → (Nat → Int64) → Prop} {x1 x2 x3 : Int32} (h4 : ∀ k, k < 3 → a4 k = nI (4 + k))
    (H : ∀ s, (∀ j, j < 3 → s j = a6 (4 + j)) → J (x3 + 1) g d nt lf lh gr a1 a2 a3 a4 a5 a6 s a8 a9) :
    ∃ n, wX_runAll_52 post J x1 x2 x3 g d nt lf lh gr n 0 a1 a2 a3 a4 a5 a6 a7 a8 a9 :=
  pk_loop (fun n i s => wX_runAll_52 post J x1 x2 x3 g d nt lf lh gr n (nI i) a1 a2 a3 a4 a5 a6 s a8 a9) (fun i s => ∀ j, j < i → s j = a6 (4 + j)) 3 0 a7 (by omega) lt_0
    (fun n s h => pk_le 3 3 (fun _ => nm_e (H s h)) (fun z => absurd z (by omega)))
    (fun n i s hi h hw => pk_le 3 i (fun z => absurd z (by omega)) (fun _ => by
      rw [nI_clamp (show i < 2 ^ 31 by omega), h4 i hi, nI_clamp (show 4 + i < 2 ^ 31 by omega)]
      exact ⟨pk_in i 3 hi, pk_in (4 + i) 21 (by omega), pk_in i 3 hi, nm_e (nm_r (nI_1 i) (hw _ (sd_fill (F := fun j => a6 (4 + j)) rfl h rfl)))⟩))
theorem sd_r2 {p : Nat} {x2 : Int32} (hp : p < 128)
    (H : ∀ s, (∀ j, j < 3 → s j = sd_w (p.testBit (4 + j))) → ∃ n, wX_runAll_39 post (nI p) x2 n 0 g d nt lf lh gr a1 a2 a3 a4 a5 a6 s a8 a9) :
    ∃ n, wX_runAll_2 post (nI p) x2 g d nt lf lh gr n 0 a1 a2 a3 a4 a5 a6 a7 a8 a9 :=
  pk_loop (fun n i s => wX_runAll_2 post (nI p) x2 g d nt lf lh gr n (nI i) a1 a2 a3 a4 a5 a6 s a8 a9) (fun i s => ∀ j, j < i → s j = sd_w (p.testBit (4 + j))) 3 0 a7 (by omega) lt_0
    (fun n s h => pk_le 3 3 (fun _ => H s h) (fun z => absurd z (by omega)))
    (fun n i s hi h hw => pk_le 3 i (fun z => absurd z (by omega)) (fun _ => by
      rw [show (4 : Int32) + nI i = nI (4 + i) from nI_add 4 i]
      exact sd_if hp (show 4 + i < 7 by omega)
        (fun e => ⟨pk_in i 3 hi, nm_e (nm_r (nI_1 i) (hw _ (sd_fill (F := fun j => sd_w (p.testBit (4 + j))) (nI_clamp (by omega)) h (sd_w_t e))))⟩)
        (fun e => ⟨pk_in i 3 hi, nm_e (nm_r (nI_1 i) (hw _ (sd_fill (F := fun j => sd_w (p.testBit (4 + j))) (nI_clamp (by omega)) h (sd_w_f e))))⟩)))
theorem sd_runAll {p t x y : Nat} (hp : p < 128) (K : sd_P t x y a1 a2 a3 a4 a5)
    (H : ∀ s6 s7 s8, sd_A t x y p s8 → post (1, d, nt, lf, lh, gr, a1, a2, a3, a4, a5, s6, s7, s8, a9)) :
    wpX_runAll post (1, d, nt, lf, lh, gr, a1, a2, a3, a4, a5, a6, a7, a8, a9) (nI p) 1 := by
  obtain ⟨ht, hx, _, h1, h2, ⟨y', hy', h3, hy5⟩, h4, h50, h51⟩ := K
  exact sd_r2 hp (fun s hs => ⟨2, pk_le 1 0 (fun z => absurd z (by omega)) (fun _ => sd_settle hp ht hx hy' h1 h2 h3 hs (fun s6 hs6 hs67 => sd_52 h4 (fun s7 hs7 =>
    pk_le 1 1 (fun _ => sd_91 h50 h51 (fun s8 hs8 hs83 hs84 => H s6 s7 s8 (sd_A_of hx hy' hy5 hs6 hs67 hs7 hs8 hs83 hs84))) (fun z => absurd z (by omega)))))⟩)
theorem sd_answerOf {post : Int32 → Prop} {f : Nat} {c : Nat → Bool} (hf : f < 64) (hc : ∀ k, k < 5 → sd_b (a8 k) f = c k) (H : post (sd_sm c)) :
    wpX_answerOf post (g, d, nt, lf, lh, gr, a1, a2, a3, a4, a5, a6, a7, a8, a9) (nI f) :=
  pk_loop (fun n i s => wX_answerOf_4 post (nI f) g d nt lf lh gr a1 a2 a3 a4 a5 a6 a7 a8 a9 n s (nI i)) (fun i s => s = sd_acc c i) 5 0 0 (by omega) rfl
    (fun n s h => pk_le 5 5 (fun _ => by rw [h, sd_acc5]; exact H) (fun z => absurd z (by omega)))
    (fun n i s hi h hw => pk_le 5 i (fun z => absurd z (by omega)) (fun _ => ⟨pk_in i 5 hi, nm_e (nm_r (nI_1 i) (hw _ (by rw [nI_clamp (by omega), sd_ext _ hf, hc i hi, h]; rfl)))⟩))
theorem sd_64 {post : Int32 → St2 → Prop} {c r : Nat → Bool} (hr : ∀ k, k < 5 → sd_b (a8 k) 63 = r k) (hl : sd_b lf 63 = true)
    (H : ∀ s, (sd_b s 63 = true ↔ ∀ k, k < 5 → c k = r k) → post (sd_sm c) (g, d, nt + 1, s, lh, gr, a1, a2, a3, a4, a5, a6, a7, a8, a9)) :
    ∃ n, wX_observe_64 post (sd_sm c) g d nt lh gr a1 a2 a3 a4 a5 a6 a7 a8 a9 n 0 lf :=
  pk_loop (fun n i s => wX_observe_64 post (sd_sm c) g d nt lh gr a1 a2 a3 a4 a5 a6 a7 a8 a9 n (nI i) s) (fun i s => sd_b s 63 = true ↔ ∀ k, k < i → c k = r k) 5 0 lf (by omega) ⟨fun _ => lt_0, fun _ => hl⟩
    (fun n s h => pk_le 5 5 (fun _ => nm_e (H s h)) (fun z => absurd z (by omega)))
    (fun n i s hi h hw => pk_le 5 i (fun z => absurd z (by omega)) (fun _ => by
      rw [sd_sumB c hi, nI_clamp (show i < 2 ^ 31 by omega)]
      cases e : c i with
      | true => exact br_t rfl ⟨pk_in i 5 hi, nm_e (nm_r (nI_1 i) (hw _ (sd_stepL h (by rw [sd_b_and, hr i hi, e, Bool.and_eq_true, eq_comm (a := true)]))))⟩
      | false => exact br_f (by decide) ⟨pk_in i 5 hi, nm_e (nm_r (nI_1 i) (hw _ (sd_stepL h (by rw [sd_b_and, sd_b_not _ (by omega), hr i hi, e, Bool.and_eq_true, Bool.not_eq_true', eq_comm (a := false)]))))⟩))
/-! the guards -/
theorem sd_pat_g {post : Int32 → Prop} {p : Nat} (hp : p < 128) (H : post 1) : wpX_isPattern post () (nI p) :=
  pk_lt p 0 (fun z => absurd z (by omega)) (fun _ => pk_lt 127 p (fun z => absurd z (by omega)) (fun _ => H))
theorem sd_pat_b {post : Int32 → Prop} {P : Int32} (h : P < 0 ∨ 127 < P) (H : post 0) : wpX_isPattern post () P :=
  br_c (fun _ => H) (fun z => br_t (h.resolve_left z) H)
theorem sd_cyc_1 {post : Int32 → Prop} (H : post 1) : wpX_isCycles post () 1 := br_f (by decide) (br_f (by decide) H)
theorem sd_cyc_5 {post : Int32 → Prop} (H : post 0) : wpX_isCycles post () 5 := br_f (by decide) (br_t (by decide) H)
theorem sd_flt_g {post : Int32 → Prop} {f : Nat} (hf : f < 16) (H : post 1) : wpX_isFault post (1, d, nt, lf, lh, gr, a1, a2, a3, a4, a5, a6, a7, a8, a9) (nI f) :=
  pk_lt f 0 (fun z => absurd z (by omega)) (fun _ => pk_le 16 f (fun z => absurd z (by omega)) (fun _ => H))
theorem sd_flt_b {post : Int32 → Prop} {F : Int32} (h : F < 0 ∨ 16 ≤ F) (H : post 0) : wpX_isFault post (1, d, nt, lf, lh, gr, a1, a2, a3, a4, a5, a6, a7, a8, a9) F :=
  br_c (fun _ => H) (fun z => br_t (by rw [show (2 * (7 + 1) : Int32) = 16 by decide]; exact h.resolve_left z) H)
theorem sd_lin {post : Int32 → Prop} {m l : Nat} (hl : l < 7 + m) (hm : m < 14) (H : post 1) : wpX_isLine post (nI m, d, nt, lf, lh, gr, a1, a2, a3, a4, a5, a6, a7, a8, a9) (nI l) :=
  pk_lt l 0 (fun z => absurd z (by omega)) (fun _ => pk_le (7 + m) l (fun z => absurd z (by omega)) (fun _ => H) (nI_add 7 m))
/-! the public methods -/
theorem sd_init {mc ms : Nat} (hc : 9 ≤ mc) (hs : 118 ≤ ms) (H : ∀ s, (∀ j, j < 3 → s j = nI (4 + j)) → post (0, -1, 0, -1, 0, 0, fun _ => 0, fun _ => 0, fun _ => 0, s, fun _ => 0, fun _ => 0, fun _ => 0, fun _ => 0, fun _ => 0)) :
    wpX_init post mc ms (0, 0, 0, 0, 0, 0) :=
  ⟨by omega, by omega, by omega, by omega, by omega, by omega, by omega, by omega, by omega, by omega, by omega, by omega, by omega, by omega, by omega, by omega, by omega, by omega,
    pk_loop (fun n i s => wX_init_74 post mc ms 9 118 0 0 0 0 0 0 n (nI i) (fun _ => 0) (fun _ => 0) (fun _ => 0) s (fun _ => 0) (fun _ => 0) (fun _ => 0) (fun _ => 0) (fun _ => 0)) (fun i s => ∀ j, j < i → s j = nI (4 + j)) 3 0 (fun _ => 0) (by omega) lt_0
      (fun n s h => pk_le 3 3 (fun _ => H s h) (fun z => absurd z (by omega)))
      (fun n i s hi h hw => pk_le 3 i (fun z => absurd z (by omega)) (fun _ => ⟨pk_in i 3 hi, nm_e (nm_r (nI_1 i) (hw _ (by
        intro j hj
        rw [nI_clamp (show i < 2 ^ 31 by omega)]
        by_cases e : j = i
        · rw [e, pk_us]
          exact nI_add 4 i
        · rw [pk_un e]
          exact h j (by omega))))⟩))⟩
theorem sd_gate {post : Int32 → St2 → Prop} {t x y : Nat} (ht : t < 6) (hx : x < 7) (hy : y < 7)
    (H : ∀ s, (∃ y', y' < 7 ∧ s 0 = nI y' ∧ (t = 5 ∨ y' = y)) → post 7 (1, d, 0, -1, lh, 0, upd a1 0 (nI t), upd a2 0 (nI x), s, a4, a5, a6, a7, a8, a9)) :
    wpX_gate post (0, d, nt, lf, lh, gr, a1, a2, a3, a4, a5, a6, a7, a8, a9) (nI t) (nI x) (nI y) := by
  have G : wX_gate_35 post (nI t) (nI x) (nI y) 0 d nt lf lh gr a1 a2 a3 a4 a5 a6 a7 a8 a9 :=
    br_f (by decide) ⟨pk_in 0 14 (by omega), nm_e ⟨pk_in 0 14 (by omega), nm_e (pk_eq t 5
      (fun e => ⟨pk_in 0 14 (by omega), nm_e (nm_e (H (upd a3 0 (nI x)) ⟨x, hx, pk_us, Or.inl e⟩))⟩)
      (fun e => ⟨pk_in 0 14 (by omega), nm_e (nm_e (H (upd a3 0 (nI y)) ⟨y, hy, pk_us, Or.inr rfl⟩))⟩))⟩⟩
  exact pk_lt t 0 (fun z => absurd z (by omega)) (fun _ => pk_le t 5 (fun _ => sd_lin (m := 0) (by omega) (by omega) (br_f (by decide) (br_c (fun _ => G) (fun _ => sd_lin (m := 0) (by omega) (by omega) (br_f (by decide) G))))) (fun z => absurd z (by omega)))
theorem sd_output {post : Int32 → St2 → Prop} (H : post (a5 0) (1, d, 0, -1, lh, 0, a1, a2, a3, a4, upd a5 0 7, a6, a7, a8, a9)) :
    wpX_output post (1, d, nt, lf, lh, gr, a1, a2, a3, a4, a5, a6, a7, a8, a9) 0 7 :=
  br_t rfl (sd_lin (m := 1) (l := 7) (by omega) (by omega) (br_f (by decide) ⟨pk_in 0 2 (by omega), nm_e ⟨pk_in 0 2 (by omega), nm_e H⟩⟩))
theorem sd_response_g {post : Int32 → St2 → Prop} {p t x y : Nat} (hp : p < 128) (K : sd_P t x y a1 a2 a3 a4 a5)
    (H : ∀ s6 s7 s8, post (sd_sm (sd_an t x y p 63)) (1, d, nt, lf, lh, gr, a1, a2, a3, a4, a5, s6, s7, s8, a9)) :
    wpX_response post (1, d, nt, lf, lh, gr, a1, a2, a3, a4, a5, a6, a7, a8, a9) (nI p) 1 := by
  unfold wpX_response
  dsimp only
  exact sd_pat_g hp (br_f (by decide) (sd_cyc_1 (br_f (by decide) (sd_runAll hp K (fun s6 s7 s8 hA => sd_answerOf (f := 63) (by omega) (hA 63 (by omega)) (H s6 s7 s8))))))
theorem sd_response_b {post : Int32 → St2 → Prop} {P c : Int32} (hb : P < 0 ∨ 127 < P) (H : post (-1) (g, d, nt, lf, lh, gr, a1, a2, a3, a4, a5, a6, a7, a8, a9)) :
    wpX_response post (g, d, nt, lf, lh, gr, a1, a2, a3, a4, a5, a6, a7, a8, a9) P c := by
  unfold wpX_response
  dsimp only
  exact sd_pat_b hb (br_t rfl H)
theorem sd_responseWith_g {post : Int32 → St2 → Prop} {p t x y f : Nat} (hp : p < 128) (hf : f < 16) (K : sd_P t x y a1 a2 a3 a4 a5)
    (H : ∀ s6 s7 s8, post (sd_sm (sd_an t x y p f)) (1, d, nt, lf, lh, gr, a1, a2, a3, a4, a5, s6, s7, s8, a9)) :
    wpX_responseWith post (1, d, nt, lf, lh, gr, a1, a2, a3, a4, a5, a6, a7, a8, a9) (nI f) (nI p) 1 := by
  unfold wpX_responseWith
  dsimp only
  exact sd_flt_g hf (br_f (by decide) (sd_pat_g hp (br_f (by decide) (sd_cyc_1 (br_f (by decide) (sd_runAll hp K (fun s6 s7 s8 hA => sd_answerOf (by omega) (hA f (by omega)) (H s6 s7 s8))))))))
theorem sd_responseWith_n {post : Int32 → St2 → Prop} {P F c : Int32} (h : F < 0 ∨ 16 ≤ F) (H : post (-1) (1, d, nt, lf, lh, gr, a1, a2, a3, a4, a5, a6, a7, a8, a9)) :
    wpX_responseWith post (1, d, nt, lf, lh, gr, a1, a2, a3, a4, a5, a6, a7, a8, a9) F P c := by
  unfold wpX_responseWith
  dsimp only
  exact sd_flt_b h (br_t rfl H)
theorem sd_responseWith_b {post : Int32 → St2 → Prop} {P c : Int32} {f : Nat} (hf : f < 16) (hb : P < 0 ∨ 127 < P) (H : post (-2) (1, d, nt, lf, lh, gr, a1, a2, a3, a4, a5, a6, a7, a8, a9)) :
    wpX_responseWith post (1, d, nt, lf, lh, gr, a1, a2, a3, a4, a5, a6, a7, a8, a9) (nI f) P c := by
  unfold wpX_responseWith
  dsimp only
  exact sd_flt_g hf (br_f (by decide) (sd_pat_b hb (br_t rfl H)))
theorem sd_observe_b {post : Int32 → St2 → Prop} {P c : Int32} (hb : P < 0 ∨ 127 < P) (H : post (-1) (g, d, nt, lf, lh, gr, a1, a2, a3, a4, a5, a6, a7, a8, a9)) :
    wpX_observe post (g, d, nt, lf, lh, gr, a1, a2, a3, a4, a5, a6, a7, a8, a9) P c := by
  unfold wpX_observe
  dsimp only
  exact sd_pat_b hb (br_t rfl H)
theorem sd_observe_5 {post : Int32 → St2 → Prop} {p : Nat} (hp : p < 128) (H : post (-2) (g, d, nt, lf, lh, gr, a1, a2, a3, a4, a5, a6, a7, a8, a9)) :
    wpX_observe post (g, d, nt, lf, lh, gr, a1, a2, a3, a4, a5, a6, a7, a8, a9) (nI p) 5 := by
  unfold wpX_observe
  dsimp only
  exact sd_pat_g hp (br_f (by decide) (sd_cyc_5 (br_t rfl H)))
/-- the device in the object: a fault, or below zero for the healthy one -/
def sd_D (d : Int32) (f : Nat) : Prop := (0 ≤ d ∧ d = nI f) ∨ (¬ 0 ≤ d ∧ f = 63)
theorem sd_observe_g {post : Int32 → St2 → Prop} {p t x y f : Nat} (hp : p < 128) (hf : f < 64) (hd : sd_D d f) (K : sd_P t x y a1 a2 a3 a4 a5)
    (H : ∀ s6 s7 s8 s, (sd_b s 63 = true ↔ sd_sm (sd_an t x y p f) = sd_sm (sd_an t x y p 63)) → post (sd_sm (sd_an t x y p f)) (1, d, 1, s, lh, gr, a1, a2, a3, a4, a5, s6, s7, s8, a9)) :
    wpX_observe post (1, d, 0, -1, lh, gr, a1, a2, a3, a4, a5, a6, a7, a8, a9) (nI p) 1 := by
  unfold wpX_observe
  dsimp only
  refine sd_pat_g hp (br_f (by decide) (sd_cyc_1 (br_f (by decide) (br_f (by decide) (sd_runAll hp K (fun s6 s7 s8 hA => ?_))))))
  have W : wX_observe_53 post (nI f) 1 d 0 (-1) lh gr a1 a2 a3 a4 a5 s6 s7 s8 a9 :=
    sd_answerOf hf (hA f hf) (sd_64 (hA 63 (by omega)) (by decide) (fun s hs => H s6 s7 s8 s (hs.trans sd_smEq.symm)))
  rcases hd with ⟨h0, e⟩ | ⟨h0, e⟩
  · rw [← e] at W
    exact br_t h0 W
  · rw [e] at W
    exact br_f h0 W
end
end
section
/-! the law, from its end to its beginning -/
section
variable {post : Int32 → St0 → Prop} {mc ms kc ks : Nat} {g d nt gr : Int32} {lf lh : Int64} {a1 a2 a3 a4 a5 : Nat → Int32} {a6 a7 a8 a9 : Nat → Int64}
theorem sd_inj_g {post : Int32 → St2 → Prop} {f : Nat} (hf : f < 16) (H : post 0 (1, nI f, 0, -1, lh, 0, a1, a2, a3, a4, a5, a6, a7, a8, a9)) : wpX_inject post (1, d, nt, lf, lh, gr, a1, a2, a3, a4, a5, a6, a7, a8, a9) (nI f) :=
  br_f ((show ∀ f, f < 16 → ¬ nI f = -1 by decide +kernel) f hf) (sd_flt_g hf (br_f (by decide) H))
theorem sd_inj_m {post : Int32 → St2 → Prop} (H : post 0 (1, -1, 0, -1, lh, 0, a1, a2, a3, a4, a5, a6, a7, a8, a9)) : wpX_inject post (1, d, nt, lf, lh, gr, a1, a2, a3, a4, a5, a6, a7, a8, a9) (-1) :=
  br_t rfl H
theorem sd_inj_b {post : Int32 → St2 → Prop} {F : Int32} (h : F < 0 ∨ 16 ≤ F) (hn : ¬ F = -1) (H : post (-1) (1, d, nt, lf, lh, gr, a1, a2, a3, a4, a5, a6, a7, a8, a9)) : wpX_inject post (1, d, nt, lf, lh, gr, a1, a2, a3, a4, a5, a6, a7, a8, a9) F :=
  br_f hn (sd_flt_b h (br_t rfl H))
theorem sd_283 {P x9 z0 z1 : Int32} (hG : ((P < 0 ∨ 127 < P) ∧ x9 = 0) ∨ (x9 = 1 ∧ ∃ p, p < 128 ∧ P = nI p)) (hz : z1 = z0) (HP : post 1 ()) :
    wL_lawOf_283 post mc ms P x9 z0 z1 kc ks g d nt lf lh gr a1 a2 a3 a4 a5 a6 a7 a8 a9 := by
  refine br_t hz ?_
  rcases hG with ⟨hb, rfl⟩ | ⟨rfl, p, hp, rfl⟩
  · exact sd_observe_b hb (br_t rfl (br_t rfl HP))
  · exact sd_observe_5 hp (br_f (by decide) (br_t rfl HP))
theorem sd_261 {P x9 x10 x13 z0 z1 : Int32} (hG : ((P < 0 ∨ 127 < P) ∧ x9 = 0) ∨ (x9 = 1 ∧ ∃ p, p < 128 ∧ P = nI p)) (hz : z1 = z0) (hl : sd_b lf 63 = true ↔ x13 = x10) (HP : post 1 ()) :
    wL_lawOf_261 post mc ms P x9 x10 x13 z0 z1 kc ks g d nt lf lh gr a1 a2 a3 a4 a5 a6 a7 a8 a9 := by
  refine br_t hz ?_
  by_cases e : x13 = x10
  · have h : ¬ 0 ≤ lf := by
      rw [sd_sg, hl.mpr e]
      decide
    exact br_f h (br_t e (sd_283 hG rfl HP))
  · have h : 0 ≤ lf := by
      rw [sd_sg]
      cases h : sd_b lf 63
      · rfl
      · exact absurd (hl.mp h) e
    exact br_t h (br_f e (sd_283 hG rfl HP))
theorem sd_232b {P : Int32} (hb : P < 0 ∨ 127 < P) (HP : post 1 ()) :
    wL_lawOf_232 post mc ms P 0 (-1) (-1) kc ks g d 0 (-1) lh gr a1 a2 a3 a4 a5 a6 a7 a8 a9 :=
  sd_observe_b hb (br_t rfl (br_t rfl (sd_261 (Or.inl ⟨hb, rfl⟩) rfl ⟨fun _ => rfl, fun _ => sd_b_m1 63 (by omega)⟩ HP)))
theorem sd_232g {p t x y f : Nat} (hp : p < 128) (hf : f < 64) (hd : sd_D d f) (K : sd_P t x y a1 a2 a3 a4 a5) (HP : post 1 ()) :
    wL_lawOf_232 post mc ms (nI p) 1 (sd_sm (sd_an t x y p 63)) (sd_sm (sd_an t x y p f)) kc ks 1 d 0 (-1) lh gr a1 a2 a3 a4 a5 a6 a7 a8 a9 :=
  sd_observe_g hp hf hd K (fun s6 s7 s8 s hs => br_t rfl (br_f (by decide) (sd_261 (Or.inr ⟨rfl, p, hp, rfl⟩) rfl hs HP)))
theorem sd_210b {P x11 x12 z0 z1 : Int32} (hb : P < 0 ∨ 127 < P) (hz : z1 = z0) (HP : post 1 ()) :
    wL_lawOf_210 post mc ms P 0 (-1) x11 x12 z0 z1 kc ks g d 0 (-1) lh gr a1 a2 a3 a4 a5 a6 a7 a8 a9 :=
  br_t hz (br_c (fun _ => sd_232b hb HP) (fun _ => br_t rfl (sd_232b hb HP)))
theorem sd_210n {x12 z0 z1 : Int32} {p t x y : Nat} (hp : p < 128) (K : sd_P t x y a1 a2 a3 a4 a5) (hz : z1 = z0) (HP : post 1 ()) :
    wL_lawOf_210 post mc ms (nI p) 1 (sd_sm (sd_an t x y p 63)) 0 x12 z0 z1 kc ks 1 (-1) 0 (-1) lh gr a1 a2 a3 a4 a5 a6 a7 a8 a9 :=
  br_t hz (br_t rfl (sd_232g hp (by omega) (Or.inr ⟨by decide, rfl⟩) K HP))
theorem sd_210t {z0 z1 : Int32} {p t x y f : Nat} (hp : p < 128) (hf : f < 16) (K : sd_P t x y a1 a2 a3 a4 a5) (hz : z1 = z0) (HP : post 1 ()) :
    wL_lawOf_210 post mc ms (nI p) 1 (sd_sm (sd_an t x y p 63)) 1 (sd_sm (sd_an t x y p f)) z0 z1 kc ks 1 (nI f) 0 (-1) lh gr a1 a2 a3 a4 a5 a6 a7 a8 a9 :=
  br_t hz (br_f (by decide) (br_f (by decide) (sd_232g hp (by omega) (Or.inl ⟨nI_pos' (by omega), rfl⟩) K HP)))
theorem sd_169n {P F x9 x10 : Int32} (h : F < 0 ∨ 16 ≤ F)
    (H : ∀ z gr, wL_lawOf_210 post mc ms P x9 x10 0 (-1) z z kc ks 1 (-1) 0 (-1) lh gr a1 a2 a3 a4 a5 a6 a7 a8 a9) :
    wL_lawOf_169 post mc ms P F x9 x10 0 (-1) kc ks 1 (-1) 0 (-1) lh gr a1 a2 a3 a4 a5 a6 a7 a8 a9 := by
  refine sd_responseWith_n h (br_t rfl ?_)
  by_cases e : F = -1
  · subst e
    exact sd_inj_m (br_t rfl (br_t rfl (H 0 0)))
  · exact sd_inj_b h e (br_t rfl (br_f e (H (-1) gr)))
theorem sd_169b {P : Int32} {f : Nat} (hb : P < 0 ∨ 127 < P) (hf : f < 16) (HP : post 1 ()) :
    wL_lawOf_169 post mc ms P (nI f) 0 (-1) 1 (-2) kc ks 1 d nt lf lh gr a1 a2 a3 a4 a5 a6 a7 a8 a9 :=
  sd_responseWith_b hf hb (br_t rfl (sd_inj_g hf (br_f (by decide) (sd_210b hb rfl HP))))
theorem sd_169g {p t x y f : Nat} (hp : p < 128) (hf : f < 16) (K : sd_P t x y a1 a2 a3 a4 a5) (HP : post 1 ()) :
    wL_lawOf_169 post mc ms (nI p) (nI f) 1 (sd_sm (sd_an t x y p 63)) 1 (sd_sm (sd_an t x y p f)) kc ks 1 d nt lf lh gr a1 a2 a3 a4 a5 a6 a7 a8 a9 :=
  sd_responseWith_g hp hf K (fun s6 s7 s8 => br_t rfl (sd_inj_g hf (br_f (by decide) (sd_210t hp hf K rfl HP))))
theorem sd_F3 {F : Int32} {A B : Prop} (h1 : (F < 0 ∨ 16 ≤ F) → A) (h2 : ∀ f, f < 16 → F = nI f → B) : (F < 0 → A) ∧ (¬ F < 0 → ((16 ≤ F → A) ∧ (¬ 16 ≤ F → B))) := by
  refine br_c (fun z => h1 (Or.inl z)) (fun z => br_c (fun z2 => h1 (Or.inr z2)) (fun z2 => ?_))
  rcases pk_ix F (n := 16) (by omega) with h | h | ⟨j, hj, e⟩
  · exact absurd h z
  · exact absurd h z2
  · exact h2 j hj e
theorem sd_103b {P F x6 x7 x8 : Int32} (hb : P < 0 ∨ 127 < P) (HP : post 1 ()) :
    wL_lawOf_103 post mc ms P F x6 x7 x8 0 (-1) kc ks 1 (-1) 0 (-1) lh gr a1 a2 a3 a4 a5 a6 a7 a8 a9 :=
  sd_response_b hb (br_t rfl (sd_F3 (fun h => br_t rfl (sd_169n h (fun z gr => sd_210b hb rfl HP)))
    (fun f hf e => by
      subst e
      exact br_f (by decide) (br_t rfl (sd_169b hb hf HP)))))
theorem sd_103g {F : Int32} {p t x y : Nat} (hp : p < 128) (K : sd_P t x y a1 a2 a3 a4 a5) (HP : post 1 ()) :
    wL_lawOf_103 post mc ms (nI p) F (nI t) (nI x) (nI y) 1 (sd_sm (sd_an t x y p 63)) kc ks 1 (-1) 0 (-1) lh gr a1 a2 a3 a4 a5 a6 a7 a8 a9 :=
  sd_response_g hp K (fun s6 s7 s8 => br_t rfl (sd_F3 (fun h => br_t rfl (sd_169n h (fun z gr => sd_210n hp K rfl HP)))
    (fun f hf e => by
      subst e
      exact br_f (by decide) (br_f (by decide) (sd_due K.1 K.2.1 K.2.2.1 hp (Or.inl ⟨hf, rfl⟩) (sd_169g hp hf K HP))))))
theorem sd_tail {P F : Int32} {t x y : Nat} (K : sd_P t x y a1 a2 a3 a4 a5) (HP : post 1 ()) :
    (P < 0 → wL_lawOf_79 post mc ms P F (nI t) (nI x) (nI y) kc ks 1 (-1) 0 (-1) lh gr a1 a2 a3 a4 a5 a6 a7 a8 a9) ∧ (¬ P < 0 → ((127 < P → wL_lawOf_79 post mc ms P F (nI t) (nI x) (nI y) kc ks 1 (-1) 0 (-1) lh gr a1 a2 a3 a4 a5 a6 a7 a8 a9) ∧ (¬ 127 < P → wL_lawOf_80 post mc ms P F (nI t) (nI x) (nI y) 1 kc ks 1 (-1) 0 (-1) lh gr a1 a2 a3 a4 a5 a6 a7 a8 a9))) := by
  refine br_c (fun z => br_t rfl (sd_103b (Or.inl z) HP)) (fun z => br_c (fun z2 => br_t rfl (sd_103b (Or.inr z2) HP)) (fun z2 => ?_))
  obtain ⟨p, hp, rfl⟩ := nI_of z
  have hp' : p < 128 := by
    rcases Nat.lt_or_ge p 128 with h | h
    · exact h
    · exact absurd (nI_lt (a := 127) (b := p) (by omega) hp) z2
  exact br_f (by decide) (sd_due K.1 K.2.1 K.2.2.1 hp' (Or.inr ⟨rfl, rfl⟩) (sd_103g hp' K HP))
theorem sd_lawOf (HP : post 1 ()) (q0 q1 q2 P F : Int32) : wpL_lawOf post 10 133 () q0 q1 q2 P F := by
  obtain ⟨j0, hj0, e0⟩ := pk_andE q0 3 (m := 7) (by decide)
  obtain ⟨j1, hj1, e1⟩ := pk_andE q1 3 (m := 7) (by decide)
  obtain ⟨j2, hj2, e2⟩ := pk_andE q2 3 (m := 7) (by decide)
  have r0 : (q0 &&& 7) - (q0 &&& 7) / 6 * 6 = nI (j0 % 6) := by
    rw [e0]
    exact pk_rem (d := 6) (by omega) (by omega) (by omega)
  have r1 : (q1 &&& 7) - (q1 &&& 7) / 7 * 7 = nI (j1 % 7) := by
    rw [e1]
    exact pk_rem (d := 7) (by omega) (by omega) (by omega)
  have r2 : (q2 &&& 7) - (q2 &&& 7) / 7 * 7 = nI (j2 % 7) := by
    rw [e2]
    exact pk_rem (d := 7) (by omega) (by omega) (by omega)
  refine ⟨by omega, by omega, 9, 118, by omega, by omega, sd_init (by omega) (by omega) (fun s hs => ⟨by decide, nm_r r0 ⟨by decide, nm_r r1 ⟨by decide, nm_r r2
    (sd_gate (by omega) (by omega) (by omega) (fun s3 hs3 => br_t rfl (sd_output (br_t rfl (sd_tail ?_ HP)))))⟩⟩⟩)⟩
  exact ⟨by omega, by omega, by omega, pk_us, pk_us, hs3, hs, pk_us, by rw [pk_un (by omega)]; rfl⟩
end
theorem sd_cell {post : Int32 → Prop} {xs : Nat → Int32} {L j : Nat} (hL : L ≤ 5) (hj : j < 5) (H : ∀ v, post v) : wpL_cellAt post L xs () (nI j) :=
  pk_le L j (fun _ => H 0) (fun z => ⟨pk_in j L z, H _⟩)
end
section
theorem i_vc (xs : Nat → Int32) (L : Nat) (hL : L ≤ 5) : wpL_law (fun r => r = 1) L xs :=
  sd_cell (j := 0) hL (by omega) (fun r1 => sd_cell (j := 1) hL (by omega) (fun r2 => sd_cell (j := 2) hL (by omega) (fun r3 => sd_cell (j := 3) hL (by omega) (fun r4 => sd_cell (j := 4) hL (by omega)
    (fun r5 => ⟨10, 133, by omega, by omega, sd_lawOf rfl r1 r2 r3 r4 r5⟩)))))
end
