section
/-- a set less one of its variables -/
def sl_less (s u : Nat) : Nat := if s.testBit u then s - 2 ^ u else s
/-- the code of the score S (h) or of 0 (not h): codes grow as the values do; 0 is NONE; g: S is positive -/
def sl_c (g h : Bool) : Nat := if g == h then 2 else 1
/-- does the best score of v's parents within s equal S? -/
def sl_hW (V P : Nat) (g : Bool) (v s : Nat) : Bool := v == V && (if g then (P &&& s) == P else P == 0 && (s == 0 || s == 2 ^ V))
def sl_W (V P : Nat) (g : Bool) (v s : Nat) : Nat := sl_c g (sl_hW V P g v s)
/-- does the best structure of s have the worth S? -/
def sl_hB (V P : Nat) (g : Bool) (s : Nat) : Bool := if g then s.testBit V && (P &&& s) == P else P == 0 && s == 2 ^ V
def sl_B (V P : Nat) (g : Bool) (s : Nat) : Nat := sl_c g (sl_hB V P g s)
/-- the score of s itself as v's parents, NONE if v lies in s -/
def sl_A (V P : Nat) (g : Bool) (v s : Nat) : Nat := if s.testBit v then 0 else sl_c g (v == V && s == P)
/-- the inner loop of fillWithin -/
def sl_R (V P : Nat) (g : Bool) (v s : Nat) : Nat → Nat
  | 0 => sl_A V P g v s
  | i + 1 => if s.testBit i then max (sl_R V P g v s i) (sl_W V P g v (sl_less s i)) else sl_R V P g v s i
/-- a sum of two codes -/
def sl_p (g : Bool) (c d : Nat) : Nat := if g then max c d else min c d
/-- the inner loop of solve -/
def sl_T (V P : Nat) (g : Bool) (s : Nat) : Nat → Nat
  | 0 => 0
  | i + 1 => if s.testBit i then max (sl_T V P g s i) (sl_p g (sl_B V P g (sl_less s i)) (sl_W V P g i (sl_less s i))) else sl_T V P g s i
theorem sl_lawR : ∀ V, V < 4 → ∀ P, P < 16 → P.testBit V = false → ∀ g : Bool, ∀ v, v < 4 → ∀ s, s < 16 → sl_R V P g v s 4 = sl_W V P g v s := by decide +kernel
theorem sl_lawT : ∀ V, V < 4 → ∀ P, P < 16 → P.testBit V = false → ∀ g : Bool, ∀ s, s < 16 → 0 < s → sl_T V P g s 4 = sl_B V P g s := by decide +kernel
theorem sl_law2a : ∀ V, V < 4 → ∀ P, P < 16 → ∀ g : Bool, ∀ s, s < 16 → ∀ v, v < 4 → (!P.testBit V && s.testBit v && (sl_hB V P g (sl_less s v) && sl_hW V P g v (sl_less s v))) = false := by decide +kernel
theorem sl_law2 (V : Nat) (hV : V < 4) (P : Nat) (hP : P < 16) (hVP : P.testBit V = false) (g : Bool) (s : Nat) (hs : s < 16) (v : Nat) (hv : v < 4) (hb : s.testBit v = true) : (sl_hB V P g (sl_less s v) && sl_hW V P g v (sl_less s v)) = false := by
  have t := sl_law2a V hV P hP g s hs v hv
  rw [hVP, hb] at t
  exact t
theorem sl_law0 : ∀ V, V < 4 → ∀ P, P < 16 → P.testBit V = false → ∀ g : Bool, sl_hB V P g 0 = false ∧ sl_hB V P g 15 = g := by decide +kernel
theorem sl_lessT : ∀ s, s < 16 → ∀ u, u < 4 → (nI s &&& (((1 : Int32) <<< (nI u &&& 31)) ^^^ (-1))) = nI (sl_less s u) := by decide +kernel
theorem sl_lessLt : ∀ s, s < 16 → ∀ u, u < 4 → s.testBit u = true → sl_less s u < s := by decide +kernel
theorem sl_lessE {s u : Nat} (h : ¬ s.testBit u = true) : sl_less s u = s := by
  unfold sl_less
  rw [if_neg h]
theorem sl_bitT : ∀ s, s < 16 → ∀ u, u < 4 → (((nI s >>> (nI u &&& 31)) &&& 1) = 1 ↔ s.testBit u = true) := by decide +kernel
theorem sl_sizeT : ∀ s, s < 16 → ∀ u, u < 4 → s.testBit u = false → ¬ (3 : Int32) < 0 + ((nI s >>> ((0 : Int32) &&& 31)) &&& 1) + ((nI s >>> ((0 + 1 : Int32) &&& 31)) &&& 1) + ((nI s >>> ((0 + 1 + 1 : Int32) &&& 31)) &&& 1) + ((nI s >>> ((0 + 1 + 1 + 1 : Int32) &&& 31)) &&& 1) := by decide +kernel
theorem sl_ix (v s : Nat) : nI v * 16 + nI s = nI (16 * v + s) := by
  rw [show (16 : Int32) = nI 16 from rfl, pk_mul, nI_add, Nat.mul_comm]
/-- a code's value -/
def sl_v (S : Int32) (g : Bool) (c : Nat) : Int32 := if c = 0 then (-100000) else if c = 1 then (if g then 0 else S) else (if g then S else 0)
/-- what is asked of the score -/
def sl_ok (S : Int32) (g : Bool) : Prop := -1000 ≤ S.toInt ∧ S.toInt ≤ 1000 ∧ (g = true → 0 ≤ S.toInt) ∧ (g = false → S.toInt ≤ 0)
theorem sl_vI (S : Int32) (g : Bool) (c : Nat) : (sl_v S g c).toInt = if c = 0 then (-100000) else if c = 1 then (if g then 0 else S.toInt) else (if g then S.toInt else 0) := by
  unfold sl_v
  by_cases h0 : c = 0
  · rw [if_pos h0, if_pos h0]; decide
  · rw [if_neg h0, if_neg h0]
    by_cases h1 : c = 1
    · rw [if_pos h1, if_pos h1]
      cases g
      · rfl
      · show (0 : Int32).toInt = 0
        decide
    · rw [if_neg h1, if_neg h1]
      cases g
      · show (0 : Int32).toInt = 0
        decide
      · rfl
theorem sl_mono {S : Int32} {g : Bool} (k : sl_ok S g) {c d : Nat} (h : c ≤ d) : sl_v S g c ≤ sl_v S g d := by
  obtain ⟨k1, k2, k3, k4⟩ := k
  rw [Int32.le_iff_toInt_le, sl_vI, sl_vI]
  cases g
  · have k5 := k4 rfl
    by_cases c0 : c = 0
    · rw [if_pos c0]
      by_cases d0 : d = 0
      · rw [if_pos d0]; exact Int.le_refl _
      · rw [if_neg d0]
        by_cases d1 : d = 1
        · rw [if_pos d1]; show _ ≤ S.toInt; omega
        · rw [if_neg d1]; show _ ≤ (0 : Int); omega
    · rw [if_neg c0, if_neg (show ¬ d = 0 by omega)]
      by_cases c1 : c = 1
      · rw [if_pos c1]
        by_cases d1 : d = 1
        · rw [if_pos d1]; exact Int.le_refl _
        · rw [if_neg d1]; exact k5
      · rw [if_neg c1, if_neg (show ¬ d = 1 by omega)]; exact Int.le_refl _
  · have k5 := k3 rfl
    by_cases c0 : c = 0
    · rw [if_pos c0]
      by_cases d0 : d = 0
      · rw [if_pos d0]; exact Int.le_refl _
      · rw [if_neg d0]
        by_cases d1 : d = 1
        · rw [if_pos d1]; show _ ≤ (0 : Int); omega
        · rw [if_neg d1]; show _ ≤ S.toInt; omega
    · rw [if_neg c0, if_neg (show ¬ d = 0 by omega)]
      by_cases c1 : c = 1
      · rw [if_pos c1]
        by_cases d1 : d = 1
        · rw [if_pos d1]; exact Int.le_refl _
        · rw [if_neg d1]; exact k5
      · rw [if_neg c1, if_neg (show ¬ d = 1 by omega)]; exact Int.le_refl _
theorem sl_ne {S : Int32} {g : Bool} (k : sl_ok S g) {c : Nat} (h : c ≠ 0) : ¬ sl_v S g c = -100000 := by
  intro e
  obtain ⟨k1, k2, k3, k4⟩ := k
  have e1 : (sl_v S g c).toInt = -100000 := by rw [e]; decide
  rw [sl_vI, if_neg h] at e1
  by_cases c1 : c = 1
  · rw [if_pos c1] at e1
    cases g
    · have : S.toInt = -100000 := e1
      omega
    · have : (0 : Int) = -100000 := e1
      omega
  · rw [if_neg c1] at e1
    cases g
    · have : (0 : Int) = -100000 := e1
      omega
    · have : S.toInt = -100000 := e1
      omega
/-- the greater of two: kept -/
theorem sl_maxK {S : Int32} {g : Bool} (k : sl_ok S g) {c d : Nat} (h : sl_v S g c ≤ sl_v S g d) : sl_v S g d = sl_v S g (max d c) := by
  by_cases e : c ≤ d
  · rw [Nat.max_eq_left e]
  · rw [Nat.max_eq_right (by omega)]
    exact Int32.le_antisymm (sl_mono k (by omega)) h
/-- the greater of two: taken -/
theorem sl_maxT {S : Int32} {g : Bool} (k : sl_ok S g) {c d : Nat} (h : ¬ sl_v S g c ≤ sl_v S g d) : sl_v S g c = sl_v S g (max d c) := by
  by_cases e : c ≤ d
  · exact absurd (sl_mono k e) h
  · rw [Nat.max_eq_right (by omega)]
theorem sl_c0 (g h : Bool) : sl_c g h ≠ 0 := by cases g <;> cases h <;> decide
theorem sl_vc (S : Int32) (g h : Bool) : sl_v S g (sl_c g h) = if h then S else 0 := by cases g <;> cases h <;> rfl
theorem sl_sum (S : Int32) (g h h' : Bool) (k : (h && h') = false) : sl_v S g (sl_c g h) + sl_v S g (sl_c g h') = sl_v S g (sl_p g (sl_c g h) (sl_c g h')) := by
  rw [sl_vc, sl_vc]
  cases g <;> cases h <;> cases h' <;> first | exact absurd k (by decide) | exact Int32.add_zero _ | exact Int32.zero_add _
end
section
theorem sl_put {Q : Nat → Int32 → Prop} {s : Nat → Int32} {i k : Nat} {x : Int32} (hk : k = i) (h : ∀ j, j < i → Q j (s j)) (hx : Q i x) : ∀ j, j < i + 1 → Q j (upd s k x j) := by
  intro j hj
  rw [hk]
  by_cases e : j = i
  · rw [e, pk_us]
    exact hx
  · rw [pk_un e]
    exact h j (by omega)
theorem sl_nd {post : St2 → Prop} {f0 : Int32} {a1 a2 a3 a4 a5 a6 a7 a8 a9 : Nat → Int32}
    (H : ∀ b4 b5 b6, (∀ j, j < 4 → b4 j = -1) → (∀ j, j < 4 → b5 j = 0) → (∀ j, j < 4 → b6 j = 0) → post (f0, a1, a2, a3, b4, b5, b6, a7, a8, a9)) :
    wpX_noDemands post (f0, a1, a2, a3, a4, a5, a6, a7, a8, a9) := by
  show ∃ n, wX_noDemands_2 post f0 n 0 a1 a2 a3 a4 a5 a6 a7 a8 a9
  exact pk_loop (σ := (Nat → Int32) × (Nat → Int32) × (Nat → Int32)) (fun n i s => wX_noDemands_2 post f0 n (nI i) a1 a2 a3 s.1 s.2.1 s.2.2 a7 a8 a9)
    (fun i s => (∀ j, j < i → s.1 j = -1) ∧ (∀ j, j < i → s.2.1 j = 0) ∧ (∀ j, j < i → s.2.2 j = 0)) 4 0 (a4, a5, a6) (by omega)
    ⟨fun j hj => absurd hj (by omega), fun j hj => absurd hj (by omega), fun j hj => absurd hj (by omega)⟩
    (fun n s h => pk_le 4 4 (fun _ => H s.1 s.2.1 s.2.2 h.1 h.2.1 h.2.2) (fun z => absurd z (by omega)))
    (fun n i s hi h hw => pk_le 4 i (fun z => absurd z (by omega)) (fun _ => ⟨pk_in i 4 hi, nm_e ⟨pk_in i 4 hi, nm_e ⟨pk_in i 4 hi, nm_e (nm_r (nI_1 i) (hw (_, _, _)
      ⟨sl_put (Q := fun _ y => y = -1) (nI_clamp (by omega)) h.1 rfl, sl_put (Q := fun _ y => y = 0) (nI_clamp (by omega)) h.2.1 rfl, sl_put (Q := fun _ y => y = 0) (nI_clamp (by omega)) h.2.2 rfl⟩))⟩⟩⟩))
theorem sl_bp {post : Int32 → Prop} {v s : Nat} (hv : v < 4) (hs : s < 16) (H1 : s.testBit v = true → post 1) (H0 : s.testBit v = false → post 0) : wpX_badParents post () (nI v) (nI s) :=
  br_f (nI_pos (by omega)) (br_f (nI_ge (b := 16) hs (by decide)) (br_c (fun z => H1 ((sl_bitT s hs v hv).mp z)) (fun z => H0 (Bool.eq_false_iff.mpr (fun t => z ((sl_bitT s hs v hv).mpr t))))))
theorem sl_size {post : Int32 → Prop} {x : Int32} (H : post (0 + ((x >>> ((0 : Int32) &&& 31)) &&& 1) + ((x >>> ((0 + 1 : Int32) &&& 31)) &&& 1) + ((x >>> ((0 + 1 + 1 : Int32) &&& 31)) &&& 1) + ((x >>> ((0 + 1 + 1 + 1 : Int32) &&& 31)) &&& 1))) : wpX_size post () x :=
  ⟨5, br_f (by decide) (nm_e (nm_e (br_f (by decide) (nm_e (nm_e (br_f (by decide) (nm_e (nm_e (br_f (by decide) (nm_e (nm_e (br_t (by decide) H))))))))))))⟩
theorem sl_and0 (x : Int32) : (x &&& (0 ||| 0)) = 0 := by
  rw [show (0 ||| 0 : Int32) = 0 from by decide]
  exact Int32.and_zero
theorem sl_al31 {post : Int32 → Prop} {a1 a2 a3 a4 a5 a6 a7 a8 a9 : Nat → Int32} {v s : Nat} (hv : v < 4) (hs : s < 16) (h2 : a2 v = 0) (h3 : a3 v = 0) (h5 : a5 v = 0) (h6 : a6 v = 0)
    (hb : s.testBit v = false) (H1 : post 1) : wX_isAllowed_31 post (nI v) (nI s) 3 a1 a2 a3 a4 a5 a6 a7 a8 a9 := by
  unfold wX_isAllowed_31
  refine sl_size ?_
  rw [nI_clamp (show v < 2 ^ 31 by omega), h2, h3, h5, h6]
  exact ⟨pk_in v 4 hv, pk_in v 4 hv, nm_e (br_f (sl_sizeT s hs v hv hb) ⟨pk_in v 4 hv, pk_in v 4 hv, br_t (sl_and0 _) (br_t (sl_and0 _) H1)⟩)⟩
theorem sl_al {post : Int32 → Prop} {a1 a2 a3 a4 a5 a6 a7 a8 a9 : Nat → Int32} {v s : Nat} (hv : v < 4) (hs : s < 16) (h2 : a2 v = 0) (h3 : a3 v = 0) (h4 : a4 v = -1) (h5 : a5 v = 0) (h6 : a6 v = 0)
    (H0 : s.testBit v = true → post 0) (H1 : s.testBit v = false → post 1) : wpX_isAllowed post (3, a1, a2, a3, a4, a5, a6, a7, a8, a9) (nI v) (nI s) := by
  unfold wpX_isAllowed
  refine sl_bp hv hs (fun z => br_f (by decide) (H0 z)) (fun z => br_t rfl ⟨pk_in v 4 hv, ?_⟩)
  rw [nI_clamp (show v < 2 ^ 31 by omega), h4]
  exact br_t (by decide) (sl_al31 hv hs h2 h3 h5 h6 z (H1 z))
theorem sl_f40 {post : St2 → Prop} {J2 : Int32 → (Nat → Int32) → (Nat → Int32) → (Nat → Int32) → (Nat → Int32) → (Nat → Int32) → (Nat → Int32) → (Nat → Int32) → (Nat → Int32) → (Nat → Int32) → Prop}
    {f0 : Int32} {a1 a2 a3 a4 a5 a6 a7 a8 a9 : Nat → Int32} {V P v s : Nat} {g : Bool} {S x0 : Int32} (hV : V < 4) (hP : P < 16) (hVP : P.testBit V = false) (k : sl_ok S g) (hv : v < 4) (hs : s < 16)
    (h7 : ∀ j, j < s → a7 (16 * v + j) = sl_v S g (sl_W V P g v j)) (hx0 : x0 = sl_v S g (sl_A V P g v s))
    (H : J2 (nI (s + 1)) a1 a2 a3 a4 a5 a6 (upd a7 (16 * v + s) (sl_v S g (sl_W V P g v s))) a8 a9) :
    ∃ n, wX_fillWithin_40 post J2 (nI v) (nI s) f0 a1 a2 a3 a4 a5 a6 a7 a8 a9 n x0 0 := by
  refine pk_loop (σ := Int32) (fun n i x => wX_fillWithin_40 post J2 (nI v) (nI s) f0 a1 a2 a3 a4 a5 a6 a7 a8 a9 n x (nI i)) (fun i x => x = sl_v S g (sl_R V P g v s i)) 4 0 x0 (by omega) hx0 ?_ ?_
  · intro n x hx
    have hx : x = sl_v S g (sl_R V P g v s 4) := hx
    refine pk_le 4 4 (fun _ => ⟨pk_in (16 * v + s) 64 (by omega) (sl_ix v s), ?_⟩) (fun z => absurd z (by omega))
    rw [sl_ix, nI_clamp (show 16 * v + s < 2 ^ 31 by omega), hx, sl_lawR V hV P hP hVP g v hv s hs]
    exact nm_e (nm_r (nI_1 s) H)
  · intro n i x hi hx hw
    have hx : x = sl_v S g (sl_R V P g v s i) := hx
    refine pk_le 4 i (fun z => absurd z (by omega)) (fun _ => nm_r (sl_lessT s hs i hi) ?_)
    by_cases hb : s.testBit i = true
    · have hl : sl_less s i < s := sl_lessLt s hs i hi hb
      have eR : sl_R V P g v s (i + 1) = max (sl_R V P g v s i) (sl_W V P g v (sl_less s i)) := if_pos hb
      refine br_f (fun e => absurd ((nI_eq (by omega) (by omega)).mp e) (by omega)) ⟨pk_in (16 * v + sl_less s i) 64 (by omega) (sl_ix v _), ?_⟩
      rw [sl_ix, nI_clamp (show 16 * v + sl_less s i < 2 ^ 31 by omega), h7 _ hl]
      refine br_c (fun z => nm_r (nI_1 i) (hw _ ?_)) (fun z => ⟨pk_in (16 * v + sl_less s i) 64 (by omega), nm_e (nm_r (nI_1 i) (hw _ ?_))⟩)
      · show x = sl_v S g (sl_R V P g v s (i + 1))
        rw [hx] at z
        rw [eR, hx]
        exact sl_maxK k z
      · show _ = sl_v S g (sl_R V P g v s (i + 1))
        rw [hx] at z
        rw [eR]
        exact sl_maxT k z
    · have eR : sl_R V P g v s (i + 1) = sl_R V P g v s i := if_neg hb
      rw [sl_lessE hb]
      exact br_t rfl (nm_r (nI_1 i) (hw _ (show x = sl_v S g (sl_R V P g v s (i + 1)) from by rw [eR]; exact hx)))
/-- the scores: S at V, P, else 0 -/
def sl_sc (V P : Nat) (g : Bool) (S : Int32) (a1 : Nat → Int32) : Prop := ∀ v, v < 4 → ∀ s, s < 16 → a1 (16 * v + s) = sl_v S g (sl_c g (v == V && s == P))
theorem sl_fw {post : St2 → Prop} {a1 a2 a3 a4 a5 a6 a7 a8 a9 : Nat → Int32} {V P v : Nat} {g : Bool} {S : Int32} (hV : V < 4) (hP : P < 16) (hVP : P.testBit V = false) (k : sl_ok S g) (hv : v < 4)
    (sc : sl_sc V P g S a1) (h2 : a2 v = 0) (h3 : a3 v = 0) (h4 : a4 v = -1) (h5 : a5 v = 0) (h6 : a6 v = 0)
    (H : ∀ b, (∀ j, j < 16 → b (16 * v + j) = sl_v S g (sl_W V P g v j)) → (∀ j, j < 16 * v → b j = a7 j) → post (3, a1, a2, a3, a4, a5, a6, b, a8, a9)) :
    wpX_fillWithin post (3, a1, a2, a3, a4, a5, a6, a7, a8, a9) (nI v) := by
  show ∃ n, wX_fillWithin_2 post (nI v) 3 n 0 a1 a2 a3 a4 a5 a6 a7 a8 a9
  refine pk_loop (fun n i a => wX_fillWithin_2 post (nI v) 3 n (nI i) a1 a2 a3 a4 a5 a6 a a8 a9) (fun i a => (∀ j, j < i → a (16 * v + j) = sl_v S g (sl_W V P g v j)) ∧ (∀ j, j < 16 * v → a j = a7 j)) 16 0 a7 (by omega)
    ⟨fun j hj => absurd hj (by omega), fun j _ => rfl⟩ (fun n a h => pk_le 16 16 (fun _ => H a h.1 h.2) (fun z => absurd z (by omega))) ?_
  intro n i a hi h hw
  have F : wX_fillWithin_2 post (nI v) 3 n (nI (i + 1)) a1 a2 a3 a4 a5 a6 (upd a (16 * v + i) (sl_v S g (sl_W V P g v i))) a8 a9 := by
    refine hw _ ⟨fun j hj => ?_, fun j hj => ?_⟩
    · by_cases e : j = i
      · rw [e, pk_us]
      · rw [pk_un (by omega)]
        exact h.1 j (by omega)
    · rw [pk_un (by omega)]
      exact h.2 j hj
  refine pk_le 16 i (fun z => absurd z (by omega)) (fun _ => sl_al hv hi h2 h3 h4 h5 h6 (fun z => br_t rfl ?_) (fun z => br_f (by decide) ⟨pk_in (16 * v + i) 64 (by omega) (sl_ix v i), ?_⟩))
  · exact sl_f40 hV hP hVP k hv hi h.1 (by unfold sl_A; rw [if_pos z]; rfl) F
  · rw [sl_ix, nI_clamp (show 16 * v + i < 2 ^ 31 by omega), sc v hv i hi]
    exact nm_e (sl_f40 hV hP hVP k hv hi h.1 (by unfold sl_A; rw [if_neg (Bool.eq_false_iff.mp z)]) F)
theorem sl_t77 {post : St2 → Prop} {x5 f0 : Int32} {a1 a2 a3 a4 a5 a6 a7 a8 a9 : Nat → Int32} {s r : Nat} (hs : s < 16) (hr : r < 16) (H : ∀ b9, post (f0, a1, a2, a3, a4, a5, a6, a7, a8, b9)) :
    wX_tryLast_77 post (nI s) (nI r) x5 f0 a1 a2 a3 a4 a5 a6 a7 a8 a9 :=
  ⟨pk_in s 16 hs, br_c (fun _ => ⟨pk_in s 16 hs, pk_in r 16 hr, pk_in s 16 hs, nm_e (H _)⟩) (fun _ => H _)⟩
theorem sl_tl {post : St2 → Prop} {f0 : Int32} {a1 a2 a3 a4 a5 a6 a7 a8 a9 : Nat → Int32} {v s T : Nat} {g hB hW : Bool} {S : Int32} (k : sl_ok S g) (hv : v < 4) (hs : s < 16) (hb : s.testBit v = true)
    (e7 : a7 (16 * v + sl_less s v) = sl_v S g (sl_c g hW)) (e8 : a8 (sl_less s v) = sl_v S g (sl_c g hB)) (hn : (hB && hW) = false) (eT : a8 s = sl_v S g T)
    (H : ∀ b8 b9, (∀ j, j < s → b8 j = a8 j) → b8 s = sl_v S g (max T (sl_p g (sl_c g hB) (sl_c g hW))) → post (f0, a1, a2, a3, a4, a5, a6, a7, b8, b9)) :
    wpX_tryLast post (f0, a1, a2, a3, a4, a5, a6, a7, a8, a9) (nI s) (nI v) := by
  have hl : sl_less s v < s := sl_lessLt s hs v hv hb
  unfold wpX_tryLast
  refine nm_r (sl_lessT s hs v hv) ⟨pk_in (16 * v + sl_less s v) 64 (by omega) (sl_ix v _), nm_r (e' := sl_v S g (sl_c g hW)) (by rw [sl_ix, nI_clamp (show 16 * v + sl_less s v < 2 ^ 31 by omega), e7]) (br_f (sl_ne k (sl_c0 g hW)) ⟨pk_in (sl_less s v) 16 (by omega), ?_⟩)⟩
  rw [nI_clamp (show sl_less s v < 2 ^ 31 by omega), nI_clamp (show s < 2 ^ 31 by omega), e8, eT]
  refine br_f (sl_ne k (sl_c0 g hB)) ⟨pk_in (sl_less s v) 16 (by omega), nm_r (sl_sum S g _ _ hn) ⟨pk_in s 16 hs, br_c (fun z => ?_) (fun z => ⟨pk_in s 16 hs, nm_e ⟨pk_in s 16 hs, nm_e ?_⟩⟩)⟩⟩
  · exact sl_t77 hs (by omega) (fun b9 => H a8 b9 (fun j _ => rfl) (by rw [eT]; exact sl_maxK k z))
  · exact sl_t77 hs (by omega) (fun b9 => H _ b9 (fun j hj => pk_un (by omega)) (by rw [pk_us]; exact sl_maxT k z))
/-- the table of the best parents -/
def sl_tw (V P : Nat) (g : Bool) (S : Int32) (a7 : Nat → Int32) : Prop := ∀ v, v < 4 → ∀ s, s < 16 → a7 (16 * v + s) = sl_v S g (sl_W V P g v s)
theorem sl_s57 {post : St2 → Prop} {J34 : Int32 → Int32 → (Nat → Int32) → (Nat → Int32) → (Nat → Int32) → (Nat → Int32) → (Nat → Int32) → (Nat → Int32) → (Nat → Int32) → (Nat → Int32) → (Nat → Int32) → Prop}
    {f0 : Int32} {a1 a2 a3 a4 a5 a6 a7 a8 a9 : Nat → Int32} {V P s : Nat} {g : Bool} {S : Int32} (hV : V < 4) (hP : P < 16) (hVP : P.testBit V = false) (k : sl_ok S g) (hs : s < 16) (h0 : 0 < s)
    (tw : sl_tw V P g S a7) (h8 : ∀ j, j < s → a8 j = sl_v S g (sl_B V P g j)) (hT : a8 s = -100000)
    (H : ∀ b8 b9, (∀ j, j < s + 1 → b8 j = sl_v S g (sl_B V P g j)) → J34 (nI (s + 1)) f0 a1 a2 a3 a4 a5 a6 a7 b8 b9) :
    ∃ n, wX_solve_57 post J34 (nI s) n 0 f0 a1 a2 a3 a4 a5 a6 a7 a8 a9 := by
  refine pk_loop (σ := (Nat → Int32) × (Nat → Int32)) (fun n i t => wX_solve_57 post J34 (nI s) n (nI i) f0 a1 a2 a3 a4 a5 a6 a7 t.1 t.2) (fun i t => (∀ j, j < s → t.1 j = sl_v S g (sl_B V P g j)) ∧ t.1 s = sl_v S g (sl_T V P g s i)) 4 0 (a8, a9) (by omega)
    ⟨h8, hT⟩ ?_ ?_
  · intro n t h
    refine pk_le 4 4 (fun _ => nm_r (nI_1 s) (H t.1 t.2 (fun j hj => ?_))) (fun z => absurd z (by omega))
    by_cases e : j = s
    · rw [e, h.2, sl_lawT V hV P hP hVP g s hs h0]
    · exact h.1 j (by omega)
  · intro n i t hi h hw
    refine pk_le 4 i (fun z => absurd z (by omega)) (fun _ => br_c (fun z => ?_) (fun z => nm_r (nI_1 i) ?_))
    · have hb := (sl_bitT s hs i hi).mp z
      have hl : sl_less s i < s := sl_lessLt s hs i hi hb
      refine sl_tl k hi hs hb (tw i hi _ (by omega)) (h.1 _ hl) (sl_law2 V hV P hP hVP g s hs i hi hb) h.2 (fun b8 b9 hj hT' => nm_r (nI_1 i) (hw (b8, b9) ⟨fun j hjs => ?_, ?_⟩))
      · show b8 j = _
        rw [hj j hjs]
        exact h.1 j hjs
      · show b8 s = _
        rw [hT']
        exact congrArg (sl_v S g) (if_pos hb).symm
    · have hb : ¬ s.testBit i = true := fun t => z ((sl_bitT s hs i hi).mpr t)
      exact hw t ⟨h.1, h.2.trans (congrArg (sl_v S g) (if_neg hb).symm)⟩
theorem sl_s34 {post : St2 → Prop} {f0 : Int32} {a1 a2 a3 a4 a5 a6 a7 a8 a9 : Nat → Int32} {V P : Nat} {g : Bool} {S : Int32} (hV : V < 4) (hP : P < 16) (hVP : P.testBit V = false) (k : sl_ok S g)
    (tw : sl_tw V P g S a7) (h8 : a8 0 = sl_v S g (sl_B V P g 0))
    (H : ∀ b8 b9, b8 15 = sl_v S g (sl_B V P g 15) → post (f0, a1, a2, a3, a4, a5, a6, a7, b8, b9)) :
    ∃ n, wX_solve_34 post n 1 f0 a1 a2 a3 a4 a5 a6 a7 a8 a9 := by
  refine pk_loop (σ := (Nat → Int32) × (Nat → Int32)) (fun n i t => wX_solve_34 post n (nI i) f0 a1 a2 a3 a4 a5 a6 a7 t.1 t.2) (fun i t => 0 < i ∧ ∀ j, j < i → t.1 j = sl_v S g (sl_B V P g j)) 16 1 (a8, a9) (by omega)
    ⟨by omega, fun j hj => ?_⟩ (fun n t h => pk_le 16 16 (fun _ => H t.1 t.2 (h.2 15 (by omega))) (fun z => absurd z (by omega))) ?_
  · show a8 j = _
    rw [show j = 0 by omega]
    exact h8
  · intro n i t hi h hw
    refine pk_le 16 i (fun z => absurd z (by omega)) (fun _ => ⟨pk_in i 16 hi, nm_e ⟨pk_in i 16 hi, nm_e ?_⟩⟩)
    rw [nI_clamp (show i < 2 ^ 31 by omega)]
    refine sl_s57 hV hP hVP k hi h.1 tw (fun j hj => ?_) pk_us (fun b8 b9 hb => hw (b8, b9) ⟨by omega, hb⟩)
    rw [pk_un (by omega)]
    exact h.2 j hj
theorem sl_sv {post : St2 → Prop} {a1 a2 a3 a4 a5 a6 a7 a8 a9 : Nat → Int32} {V P : Nat} {g : Bool} {S : Int32} (hV : V < 4) (hP : P < 16) (hVP : P.testBit V = false) (k : sl_ok S g)
    (sc : sl_sc V P g S a1) (h2 : ∀ j, j < 4 → a2 j = 0) (h3 : ∀ j, j < 4 → a3 j = 0) (h4 : ∀ j, j < 4 → a4 j = -1) (h5 : ∀ j, j < 4 → a5 j = 0) (h6 : ∀ j, j < 4 → a6 j = 0)
    (H : ∀ b7 b8 b9, b8 15 = sl_v S g (sl_B V P g 15) → post (3, a1, a2, a3, a4, a5, a6, b7, b8, b9)) :
    wpX_solve post (3, a1, a2, a3, a4, a5, a6, a7, a8, a9) := by
  show ∃ n, wX_solve_2 post n 0 3 a1 a2 a3 a4 a5 a6 a7 a8 a9
  refine pk_loop (fun n i a => wX_solve_2 post n (nI i) 3 a1 a2 a3 a4 a5 a6 a a8 a9) (fun i a => ∀ v, v < i → ∀ s, s < 16 → a (16 * v + s) = sl_v S g (sl_W V P g v s)) 4 0 a7 (by omega)
    (fun j hj => absurd hj (by omega)) (fun n a h => pk_le 4 4 (fun _ => nm_e (nm_e (sl_s34 hV hP hVP k h ?_ (fun b8 b9 hb => H a b8 b9 hb)))) (fun z => absurd z (by omega))) ?_
  · rw [pk_us]
    show _ = sl_v S g (sl_c g (sl_hB V P g 0))
    rw [sl_vc, (sl_law0 V hV P hP hVP g).1]
    rfl
  · intro n i a hi h hw
    refine pk_le 4 i (fun z => absurd z (by omega)) (fun _ => sl_fw hV hP hVP k hi sc (h2 i hi) (h3 i hi) (h4 i hi) (h5 i hi) (h6 i hi) (fun b hb hk => nm_r (nI_1 i) (hw b (fun v hv s hs => ?_))))
    by_cases e : v = i
    · rw [e]
      exact hb s hs
    · rw [hk _ (by omega)]
      exact h v (by omega) s hs
theorem sl_best {post : Int32 → St2 → Prop} {a1 a2 a3 a4 a5 a6 a7 a8 a9 : Nat → Int32} {V P : Nat} {g : Bool} {S : Int32} (hV : V < 4) (hP : P < 16) (hVP : P.testBit V = false) (k : sl_ok S g)
    (sc : sl_sc V P g S a1) (h2 : ∀ j, j < 4 → a2 j = 0) (h3 : ∀ j, j < 4 → a3 j = 0)
    (H : ∀ b4 b5 b6 b7 b8 b9, post (if g then S else 0) (3, a1, a2, a3, b4, b5, b6, b7, b8, b9)) :
    wpX_best post (3, a1, a2, a3, a4, a5, a6, a7, a8, a9) := by
  unfold wpX_best
  refine sl_nd (fun b4 b5 b6 h4 h5 h6 => sl_sv hV hP hVP k sc h2 h3 h4 h5 h6 (fun b7 b8 b9 e => ?_))
  have e' : b8 15 = if g then S else 0 := by
    rw [e]
    show sl_v S g (sl_c g (sl_hB V P g 15)) = _
    rw [sl_vc, (sl_law0 V hV P hP hVP g).2]
  show post (b8 15) (3, a1, a2, a3, b4, b5, b6, b7, b8, b9)
  rw [e']
  exact H b4 b5 b6 b7 b8 b9
end
section
theorem sl_in {x : Int32} {n : Nat} (hn : n < 2 ^ 31) (h0 : ¬ x < 0) (h : x < nI n) : ∃ j, j < n ∧ x = nI j := by
  obtain ⟨j, hj, rfl⟩ := nI_of h0
  exact ⟨j, (nI_ltI hj hn).mp h, rfl⟩
theorem sl_bad {post : Int32 → Prop} {x : Int32} (H1 : (∀ j, j < 4 → ¬ x = nI j) → post 1) (H0 : ∀ j, j < 4 → x = nI j → post 0) : wpX_bad post () x :=
  br_c (fun z => H1 (fun j hj e => nI_pos (n := j) (by omega) (e ▸ z))) (fun z => br_c (fun w => by
    obtain ⟨j, hj, e⟩ := sl_in (n := 4) (by omega) z w
    exact H0 j hj e) (fun w => H1 (fun j hj e => w (by rw [e]; exact nI_lt (b := 4) hj (by omega)))))
/-- an edge's two ends are no good -/
def sl_no (x y : Int32) : Prop := ∀ u v, u < 4 → v < 4 → x = nI u → y = nI v → u = v
theorem sl_edgeN {post : Int32 → St2 → Prop} {f0 p0 p1 p2 : Int32} {a1 a2 a3 a4 a5 a6 a7 a8 a9 : Nat → Int32} (h : sl_no p0 p1) (H : post (-1) (f0, a1, a2, a3, a4, a5, a6, a7, a8, a9)) :
    wpX_edge post (f0, a1, a2, a3, a4, a5, a6, a7, a8, a9) p0 p1 p2 := by
  unfold wpX_edge
  refine sl_bad (fun _ => br_f (by decide) H) (fun u hu eu => br_t rfl (sl_bad (fun _ => br_f (by decide) H) (fun v hv ev => br_t rfl (br_t ?_ H))))
  rw [eu, ev, h u v hu hv eu ev]
def sl_bit (u : Nat) : Int32 := (1 : Int32) <<< (nI u &&& 31)
theorem sl_bitN : ∀ u, u < 4 → ¬ sl_bit u &&& sl_bit u = 0 ∧ (0 : Int32) &&& sl_bit u = 0 ∧ (0 : Int32) &&& (sl_bit u ^^^ (-1)) = 0 ∧ (0 : Int32) ||| sl_bit u = sl_bit u := by decide +kernel
theorem sl_e105 {post : Int32 → St2 → Prop} {f0 x3 x4 x5 : Int32} {a1 a2 a3 a4 a5 a6 a7 a8 a9 : Nat → Int32} {v : Nat} (hv : v < 4)
    (H : ∀ b3, b3 v = (if x3 &&& 3 = 2 then a3 v ||| x4 else a3 v) → post x5 (f0, a1, a2, b3, a4, a5, a6, a7, a8, a9)) :
    wX_edge_105 post (nI v) x3 x4 x5 f0 a1 a2 a3 a4 a5 a6 a7 a8 a9 := by
  unfold wX_edge_105
  rw [nI_clamp (show v < 2 ^ 31 by omega)]
  exact br_c (fun z => ⟨pk_in v 4 hv, pk_in v 4 hv, nm_e (H _ (by rw [pk_us, if_pos z]))⟩) (fun z => H _ (by rw [if_neg z]))
theorem sl_e59 {post : Int32 → St2 → Prop} {f0 x3 x4 z0 : Int32} {a1 a2 a3 a4 a5 a6 a7 a8 a9 : Nat → Int32} {v : Nat} (hv : v < 4)
    (H : ∀ b2 b3, b2 v = (if x3 &&& 3 = 1 then (a2 v &&& (x4 ^^^ (-1))) ||| x4 else a2 v &&& (x4 ^^^ (-1))) → b3 v = (if x3 &&& 3 = 2 then (a3 v &&& (x4 ^^^ (-1))) ||| x4 else a3 v &&& (x4 ^^^ (-1))) →
      post z0 (f0, a1, b2, b3, a4, a5, a6, a7, a8, a9)) :
    wX_edge_59 post (nI v) x3 x4 z0 f0 a1 a2 a3 a4 a5 a6 a7 a8 a9 := by
  unfold wX_edge_59
  rw [nI_clamp (show v < 2 ^ 31 by omega)]
  refine ⟨pk_in v 4 hv, pk_in v 4 hv, nm_e ⟨pk_in v 4 hv, pk_in v 4 hv, nm_e (br_c (fun z => ⟨pk_in v 4 hv, pk_in v 4 hv, nm_e (sl_e105 hv (fun b3 h3 => H _ b3 ?_ ?_))⟩) (fun z => sl_e105 hv (fun b3 h3 => H _ b3 ?_ ?_)))⟩⟩
  · rw [pk_us, pk_us, if_pos z]
  · rw [h3, pk_us]
  · rw [pk_us, if_neg z]
  · rw [h3, pk_us]
theorem sl_edge {post : Int32 → St2 → Prop} {f0 x3 : Int32} {a1 a2 a3 a4 a5 a6 a7 a8 a9 : Nat → Int32} {u v : Nat} (hu : u < 4) (hv : v < 4) (huv : u ≠ v)
    (H : ∀ b2 b3, b2 v = (if x3 &&& 3 = 1 then (a2 v &&& (sl_bit u ^^^ (-1))) ||| sl_bit u else a2 v &&& (sl_bit u ^^^ (-1))) → b3 v = (if x3 &&& 3 = 2 then (a3 v &&& (sl_bit u ^^^ (-1))) ||| sl_bit u else a3 v &&& (sl_bit u ^^^ (-1))) →
      post (if a2 v &&& sl_bit u = 0 then (if a3 v &&& sl_bit u = 0 then 0 else 2) else 1) (f0, a1, b2, b3, a4, a5, a6, a7, a8, a9)) :
    wpX_edge post (f0, a1, a2, a3, a4, a5, a6, a7, a8, a9) (nI u) (nI v) x3 := by
  unfold wpX_edge
  refine sl_bad (fun n => absurd rfl (n u hu)) (fun _ _ _ => br_t rfl (sl_bad (fun n => absurd rfl (n v hv)) (fun _ _ _ => br_t rfl (br_f (fun e => huv ((nI_eq (by omega) (by omega)).mp e)) (nm_r (e' := sl_bit u) rfl ⟨pk_in v 4 hv, ?_⟩)))))
  rw [nI_clamp (show v < 2 ^ 31 by omega)]
  refine br_c (fun z2 => ⟨pk_in v 4 hv, br_c (fun z3 => sl_e59 hv (fun b2 b3 h2 h3 => ?_)) (fun z3 => sl_e59 hv (fun b2 b3 h2 h3 => ?_))⟩) (fun z2 => sl_e59 hv (fun b2 b3 h2 h3 => ?_))
  · have t := H b2 b3 h2 h3
    rw [if_pos z2, if_pos z3] at t
    exact t
  · have t := H b2 b3 h2 h3
    rw [if_pos z2, if_neg z3] at t
    exact t
  · have t := H b2 b3 h2 h3
    rw [if_neg z2] at t
    exact t
theorem sl_286 {post : Int32 → St0 → Prop} {mc ms kc ks : Nat} {z0 z1 : Int32} (h : z1 = z0) (H : post 1 ()) : wL_lawOf_286 post mc ms z0 z1 kc ks := br_t h H
/-- the edge's answers where it is none -/
theorem sl_221n {post : Int32 → St0 → Prop} {mc ms kc ks : Nat} {x0 x4 x5 f0 : Int32} {a1 a2 a3 a4 a5 a6 a7 a8 a9 : Nat → Int32} (h : sl_no x0 x4) (H : post 1 ()) :
    wL_lawOf_221 post mc ms x0 x4 x5 1 kc ks f0 a1 a2 a3 a4 a5 a6 a7 a8 a9 := by
  have L : ∀ z, wL_lawOf_264 post mc ms x0 x4 1 z kc ks f0 a1 a2 a3 a4 a5 a6 a7 a8 a9 := by
    intro z
    unfold wL_lawOf_264
    exact sl_edgeN h (br_f (by decide) (sl_286 rfl H))
  unfold wL_lawOf_221
  refine sl_edgeN h (br_f (by decide) ?_)
  unfold wL_lawOf_243
  exact br_t rfl (br_c (fun _ => L _) (fun _ => L _))
theorem sl_264 {post : Int32 → St0 → Prop} {mc ms kc ks : Nat} {x5 z0 f0 : Int32} {a1 a2 a3 a4 a5 a6 a7 a8 a9 : Nat → Int32} {u v : Nat} (hu : u < 4) (hv : v < 4) (huv : u ≠ v)
    (h : (if a2 v &&& sl_bit u = 0 then (if a3 v &&& sl_bit u = 0 then (0 : Int32) else 2) else 1) = z0) (H : post 1 ()) :
    wL_lawOf_264 post mc ms (nI u) (nI v) 0 z0 kc ks f0 a1 a2 a3 a4 a5 a6 a7 a8 a9 := by
  unfold wL_lawOf_264
  exact sl_edge hu hv huv (fun b2 b3 _ _ => br_t rfl (sl_286 h H))
theorem sl_221y {post : Int32 → St0 → Prop} {mc ms kc ks : Nat} {x5 f0 : Int32} {a1 a2 a3 a4 a5 a6 a7 a8 a9 : Nat → Int32} {u v : Nat} (hu : u < 4) (hv : v < 4) (huv : u ≠ v)
    (h2 : a2 v = 0) (h3 : a3 v = 0) (H : post 1 ()) :
    wL_lawOf_221 post mc ms (nI u) (nI v) x5 0 kc ks f0 a1 a2 a3 a4 a5 a6 a7 a8 a9 := by
  obtain ⟨n1, n2, n3, n4⟩ := sl_bitN u hu
  obtain ⟨j, hj, ej⟩ := pk_andE x5 (m := 3) 2 (by decide)
  unfold wL_lawOf_221
  refine sl_edge hu hv huv (fun b2 b3 e2 e3 => br_t rfl ?_)
  rw [h2, n3, n4] at e2
  rw [h3, n3, n4] at e3
  rw [h2, h3, n2, if_pos rfl, if_pos rfl]
  unfold wL_lawOf_243
  refine br_t rfl ?_
  rw [ej] at e2 e3 ⊢
  have hj4 : j = 0 ∨ j = 1 ∨ j = 2 ∨ j = 3 := by omega
  rcases hj4 with rfl | rfl | rfl | rfl
  · rw [if_neg (show ¬ nI 0 = 1 by decide)] at e2
    rw [if_neg (show ¬ nI 0 = 2 by decide)] at e3
    exact br_f (by decide) (sl_264 (x5 := x5) hu hv huv (by rw [e2, e3, n2, if_pos rfl, if_pos rfl]; rfl) H)
  · rw [if_pos (show nI 1 = 1 by decide)] at e2
    exact br_f (by decide) (sl_264 (x5 := x5) hu hv huv (by rw [e2, if_neg n1]; rfl) H)
  · rw [if_neg (show ¬ nI 2 = 1 by decide)] at e2
    rw [if_pos (show nI 2 = 2 by decide)] at e3
    exact br_f (by decide) (sl_264 (x5 := x5) hu hv huv (by rw [e2, e3, n2, if_pos rfl, if_neg n1]; rfl) H)
  · rw [if_neg (show ¬ nI 3 = 1 by decide)] at e2
    rw [if_neg (show ¬ nI 3 = 2 by decide)] at e3
    exact br_t (by decide) (sl_264 (x5 := x5) hu hv huv (by rw [e2, e3, n2, if_pos rfl, if_pos rfl]) H)
/-- the flag x7: is the variable bad? -/
def sl_fl (x0 x7 : Int32) : Prop := (x7 = 0 ∧ ∃ V, V < 4 ∧ x0 = nI V) ∨ (x7 = 1 ∧ ∀ j, j < 4 → ¬ x0 = nI j)
theorem sl_189 {post : Int32 → St0 → Prop} {mc ms kc ks : Nat} {x0 x4 x5 x7 z0 z1 f0 : Int32} {a1 a2 a3 a4 a5 a6 a7 a8 a9 : Nat → Int32} (hz : z1 = z0) (hf : sl_fl x0 x7)
    (h2 : ∀ j, j < 4 → a2 j = 0) (h3 : ∀ j, j < 4 → a3 j = 0) (H : post 1 ()) :
    wL_lawOf_189 post mc ms x0 x4 x5 x7 z0 z1 kc ks f0 a1 a2 a3 a4 a5 a6 a7 a8 a9 := by
  unfold wL_lawOf_189
  refine br_t hz ?_
  rcases hf with ⟨rfl, V, hV, rfl⟩ | ⟨rfl, hn⟩
  · refine br_t rfl (br_c (fun z => ?_) (fun z => br_c (fun w => ?_) (fun w => br_c (fun e => ?_) (fun e => ?_))))
    · exact sl_221n (fun u v hu hv e1 e2 => absurd (show nI v < 0 by rw [← e2]; exact z) (nI_pos (by omega))) H
    · exact sl_221n (fun u v hu hv e1 e2 => absurd (show nI 3 < nI v by rw [← e2]; exact w) (nI_nlt (by omega) (by omega))) H
    · exact sl_221n (fun u v hu hv e1 e2 => (nI_eq (by omega) (by omega)).mp (by rw [← e1, ← e2]; exact e)) H
    · obtain ⟨v, hv, rfl⟩ := sl_in (n := 4) (by omega) z (Int32.lt_of_le_of_lt (Int32.not_lt.mp w) (by decide))
      exact sl_221y hV hv (fun t => e (by rw [t])) (h2 v hv) (h3 v hv) H
  · exact br_f (by decide) (sl_221n (fun u v hu hv e1 e2 => absurd e1 (hn u hu)) H)
theorem sl_163 {post : Int32 → St0 → Prop} {mc ms kc ks : Nat} {x0 x3 x4 x5 x7 z0 z1 : Int32} {a1 a2 a3 a4 a5 a6 a7 a8 a9 : Nat → Int32} (hz : z1 = z0) (hf : sl_fl x0 x7)
    (h2 : ∀ j, j < 4 → a2 j = 0) (h3 : ∀ j, j < 4 → a3 j = 0) (H : post 1 ()) :
    wL_lawOf_163 post mc ms x0 x3 x4 x5 x7 z0 z1 kc ks 3 a1 a2 a3 a4 a5 a6 a7 a8 a9 := by
  unfold wL_lawOf_163
  refine br_t hz ?_
  unfold wpX_limit
  exact br_c (fun z => br_t z (sl_189 rfl hf h2 h3 H)) (fun z => br_c (fun w => br_f z (br_t w (sl_189 rfl hf h2 h3 H))) (fun w => br_f z (br_f w (sl_189 rfl hf h2 h3 H))))
/-- the scores behind the first call, by the answer that is due -/
def sl_du (x2 x10 : Int32) (a1 : Nat → Int32) : Prop := ∃ (V P : Nat) (g : Bool) (S : Int32), V < 4 ∧ P < 16 ∧ P.testBit V = false ∧ sl_ok S g ∧ sl_sc V P g S a1 ∧ (x10 = 0 → S = x2) ∧ (¬ x10 = 0 → S = 0)
theorem sl_139 {post : Int32 → St0 → Prop} {mc ms kc ks : Nat} {x0 x2 x3 x4 x5 x7 x10 z0 z1 : Int32} {a1 a2 a3 a4 a5 a6 a7 a8 a9 : Nat → Int32} (hz : z1 = z0) (hf : sl_fl x0 x7) (hd : sl_du x2 x10 a1)
    (h2 : ∀ j, j < 4 → a2 j = 0) (h3 : ∀ j, j < 4 → a3 j = 0) (H : post 1 ()) :
    wL_lawOf_139 post mc ms x0 x2 x3 x4 x5 x7 x10 z0 z1 kc ks 3 a1 a2 a3 a4 a5 a6 a7 a8 a9 := by
  obtain ⟨V, P, g, S, hV, hP, hVP, k, sc, d0, d1⟩ := hd
  unfold wL_lawOf_139
  refine br_t hz (sl_best hV hP hVP k sc h2 h3 (fun b4 b5 b6 b7 b8 b9 => br_c (fun z => br_c (fun w => sl_163 ?_ hf h2 h3 H) (fun w => sl_163 ?_ hf h2 h3 H)) (fun z => sl_163 ?_ hf h2 h3 H)))
  · cases g
    · rfl
    · have k3 := k.2.2.1 rfl
      rw [← d0 z, Int32.le_iff_toInt_le] at w
      have w' : S.toInt ≤ 0 := w
      exact Int32.toInt_inj.mp (show S.toInt = (0 : Int32).toInt from (by rw [show (0 : Int32).toInt = 0 from rfl]; omega))
  · cases g
    · have k4 := k.2.2.2 rfl
      rw [← d0 z, Int32.le_iff_toInt_le] at w
      exact absurd k4 w
    · exact d0 z
  · rw [d1 z]
    cases g <;> rfl
theorem sl_sc0 (P V : Nat) (g : Bool) : sl_sc V P g 0 (fun _ => 0) := by
  intro v hv s hs
  rw [sl_vc]
  cases (v == V && s == P) <;> rfl
theorem sl_sc1 {V P : Nat} (hP : P < 16) (g : Bool) (S : Int32) : sl_sc V P g S (upd (fun _ => 0) (16 * V + P) S) := by
  intro v hv s hs
  rw [sl_vc]
  by_cases e : v = V ∧ s = P
  · obtain ⟨rfl, rfl⟩ := e
    rw [pk_us, beq_self_eq_true, beq_self_eq_true]
    rfl
  · rw [pk_un (by omega)]
    have : (v == V && s == P) = false := by
      apply Bool.eq_false_iff.mpr
      intro t
      rw [Bool.and_eq_true, beq_iff_eq, beq_iff_eq] at t
      exact e t
    rw [this]
    rfl
theorem sl_du0 {x2 x10 : Int32} (h : ¬ x10 = 0) : sl_du x2 x10 (fun _ => 0) :=
  ⟨0, 0, true, 0, by omega, by omega, by decide, ⟨by decide, by decide, by decide, by decide⟩, sl_sc0 0 0 true, fun z => absurd z h, fun _ => rfl⟩
theorem sl_du1 {x2 : Int32} {V P : Nat} (hV : V < 4) (hP : P < 16) (hVP : P.testBit V = false) (l : ¬ x2 < -1000) (u : x2 ≤ 1000) : sl_du x2 0 (upd (fun _ => 0) (16 * V + P) x2) := by
  rw [Int32.lt_iff_toInt_lt] at l
  rw [Int32.le_iff_toInt_le] at u
  have l' : ¬ x2.toInt < -1000 := l
  have u' : x2.toInt ≤ 1000 := u
  by_cases h : 0 ≤ x2.toInt
  · exact ⟨V, P, true, x2, hV, hP, hVP, ⟨by omega, by omega, fun _ => h, fun t => absurd t (by decide)⟩, sl_sc1 hP true x2, fun _ => rfl, fun t => absurd rfl t⟩
  · exact ⟨V, P, false, x2, hV, hP, hVP, ⟨by omega, by omega, fun t => absurd t (by decide), fun _ => by omega⟩, sl_sc1 hP false x2, fun _ => rfl, fun t => absurd rfl t⟩
/-- the zero state that the constructor leaves -/
def sl_z : Nat → Int32 := fun _ => 0
theorem sl_107b {post : Int32 → St0 → Prop} {mc ms kc ks : Nat} {x0 x1 x2 x3 x4 x5 : Int32} {a4 a5 a6 a7 a8 a9 : Nat → Int32} (hn : ∀ j, j < 4 → ¬ x0 = nI j) (H : post 1 ()) :
    wL_lawOf_107 post mc ms x0 x1 x2 x3 x4 x5 1 (-1) kc ks 3 (fun _ => 0) (fun _ => 0) (fun _ => 0) a4 a5 a6 a7 a8 a9 := by
  unfold wL_lawOf_107 wpX_score
  refine sl_bad (fun _ => br_f (by decide) (br_t rfl ?_)) (fun j hj e => absurd e (hn j hj))
  unfold wpX_scoreOf
  exact sl_bad (fun _ => br_f (by decide) (br_f (by decide) (sl_139 rfl (Or.inr ⟨rfl, hn⟩) (sl_du0 (by decide)) (fun _ _ => rfl) (fun _ _ => rfl) H))) (fun j hj e => absurd e (hn j hj))
theorem sl_bpN {post : Int32 → Prop} {v : Nat} {x : Int32} (hv : v < 4) (hn : ∀ P, P < 16 → P.testBit v = false → ¬ x = nI P) (H : post 1) : wpX_badParents post () (nI v) x := by
  refine br_c (fun _ => H) (fun z => br_c (fun _ => H) (fun w => ?_))
  obtain ⟨P, hP, rfl⟩ := sl_in (n := 16) (by omega) z (Int32.not_le.mp w)
  refine br_c (fun _ => H) (fun t => absurd rfl (hn P hP (Bool.eq_false_iff.mpr (fun b => t ((sl_bitT P hP v hv).mpr b)))))
theorem sl_107p {post : Int32 → St0 → Prop} {mc ms kc ks V : Nat} {x1 x2 x3 x4 x5 : Int32} {a4 a5 a6 a7 a8 a9 : Nat → Int32} (hV : V < 4) (hn : ∀ P, P < 16 → P.testBit V = false → ¬ x1 = nI P) (H : post 1 ()) :
    wL_lawOf_107 post mc ms (nI V) x1 x2 x3 x4 x5 0 (-2) kc ks 3 (fun _ => 0) (fun _ => 0) (fun _ => 0) a4 a5 a6 a7 a8 a9 := by
  unfold wL_lawOf_107 wpX_score
  refine sl_bad (fun n => absurd rfl (n V hV)) (fun _ _ _ => br_t rfl (sl_bpN hV hn (br_f (by decide) (br_t rfl ?_))))
  unfold wpX_scoreOf
  exact sl_bad (fun n => absurd rfl (n V hV)) (fun _ _ _ => br_t rfl (sl_bpN hV hn (br_f (by decide) (br_f (by decide) (sl_139 rfl (Or.inl ⟨rfl, V, hV, rfl⟩) (sl_du0 (by decide)) (fun _ _ => rfl) (fun _ _ => rfl) H)))))
theorem sl_107s {post : Int32 → St0 → Prop} {mc ms kc ks V P : Nat} {x2 x3 x4 x5 : Int32} {a4 a5 a6 a7 a8 a9 : Nat → Int32} (hV : V < 4) (hP : P < 16) (hVP : P.testBit V = false) (hs : x2 < -1000 ∨ ¬ x2 ≤ 1000) (H : post 1 ()) :
    wL_lawOf_107 post mc ms (nI V) (nI P) x2 x3 x4 x5 0 (-3) kc ks 3 (fun _ => 0) (fun _ => 0) (fun _ => 0) a4 a5 a6 a7 a8 a9 := by
  have F : wpX_scoreOf (fun r_73 => ((((-3 : Int32) = 0 → (wL_lawOf_139 post mc ms (nI V) x2 x3 x4 x5 0 (-3) x2 r_73 kc ks 3 (fun _ => 0) (fun _ => 0) (fun _ => 0) a4 a5 a6 a7 a8 a9)) ∧ (¬ (-3 : Int32) = 0 → (wL_lawOf_139 post mc ms (nI V) x2 x3 x4 x5 0 (-3) 0 r_73 kc ks 3 (fun _ => 0) (fun _ => 0) (fun _ => 0) a4 a5 a6 a7 a8 a9)))))
      (3, (fun _ => 0), (fun _ => 0), (fun _ => 0), a4, a5, a6, a7, a8, a9) (nI V) (nI P) := by
    unfold wpX_scoreOf
    refine sl_bad (fun n => absurd rfl (n V hV)) (fun _ _ _ => br_t rfl (sl_bp hV hP (fun t => absurd t (by rw [hVP]; decide)) (fun _ => br_t rfl ⟨pk_in (16 * V + P) 64 (by omega) (sl_ix V P), ?_⟩)))
    exact br_f (by decide) (sl_139 rfl (Or.inl ⟨rfl, V, hV, rfl⟩) (sl_du0 (by decide)) (fun _ _ => rfl) (fun _ _ => rfl) H)
  unfold wL_lawOf_107 wpX_score
  refine sl_bad (fun n => absurd rfl (n V hV)) (fun _ _ _ => br_t rfl (sl_bp hV hP (fun t => absurd t (by rw [hVP]; decide)) (fun _ => br_t rfl (br_c (fun _ => br_t rfl F) (fun l => br_c (fun w => ?_) (fun _ => br_t rfl F))))))
  exact absurd hs (fun h => h.elim l (fun n => n w))
theorem sl_107y {post : Int32 → St0 → Prop} {mc ms kc ks V P : Nat} {x2 x3 x4 x5 : Int32} {a4 a5 a6 a7 a8 a9 : Nat → Int32} (hV : V < 4) (hP : P < 16) (hVP : P.testBit V = false) (l : ¬ x2 < -1000) (u : x2 ≤ 1000) (H : post 1 ()) :
    wL_lawOf_107 post mc ms (nI V) (nI P) x2 x3 x4 x5 0 0 kc ks 3 (fun _ => 0) (fun _ => 0) (fun _ => 0) a4 a5 a6 a7 a8 a9 := by
  unfold wL_lawOf_107 wpX_score
  refine sl_bad (fun n => absurd rfl (n V hV)) (fun _ _ _ => br_t rfl (sl_bp hV hP (fun t => absurd t (by rw [hVP]; decide)) (fun _ => br_t rfl (br_f l (br_t u ⟨pk_in (16 * V + P) 64 (by omega) (sl_ix V P), ?_⟩)))))
  rw [sl_ix, nI_clamp (show 16 * V + P < 2 ^ 31 by omega)]
  refine nm_e (br_t rfl ?_)
  unfold wpX_scoreOf
  refine sl_bad (fun n => absurd rfl (n V hV)) (fun _ _ _ => br_t rfl (sl_bp hV hP (fun t => absurd t (by rw [hVP]; decide)) (fun _ => br_t rfl ⟨pk_in (16 * V + P) 64 (by omega) (sl_ix V P), ?_⟩)))
  rw [sl_ix, nI_clamp (show 16 * V + P < 2 ^ 31 by omega), pk_us]
  exact br_t rfl (sl_139 rfl (Or.inl ⟨rfl, V, hV, rfl⟩) (sl_du1 hV hP hVP l u) (fun _ _ => rfl) (fun _ _ => rfl) H)
theorem sl_75b {post : Int32 → St0 → Prop} {mc ms kc ks : Nat} {x0 x1 x2 x3 x4 x5 x8 z0 : Int32} {a4 a5 a6 a7 a8 a9 : Nat → Int32} (hn : ∀ j, j < 4 → ¬ x0 = nI j) (H : post 1 ()) :
    wL_lawOf_75 post mc ms x0 x1 x2 x3 x4 x5 1 x8 z0 kc ks 3 (fun _ => 0) (fun _ => 0) (fun _ => 0) a4 a5 a6 a7 a8 a9 :=
  br_f (by decide) (sl_107b hn H)
theorem sl_54b {post : Int32 → St0 → Prop} {mc ms kc ks : Nat} {x0 x1 x2 x3 x4 x5 z0 : Int32} {a4 a5 a6 a7 a8 a9 : Nat → Int32} (hn : ∀ j, j < 4 → ¬ x0 = nI j) (H : post 1 ()) :
    wL_lawOf_54 post mc ms x0 x1 x2 x3 x4 x5 1 z0 kc ks 3 (fun _ => 0) (fun _ => 0) (fun _ => 0) a4 a5 a6 a7 a8 a9 :=
  br_c (fun _ => sl_75b hn H) (fun _ => br_c (fun _ => sl_75b hn H) (fun _ => sl_75b hn H))
theorem sl_18 {post : Int32 → St0 → Prop} {mc ms kc ks : Nat} {x0 x1 x2 x3 x4 x5 : Int32} {a4 a5 a6 a7 a8 a9 : Nat → Int32} (hn : ∀ j, j < 4 → ¬ x0 = nI j) (H : post 1 ()) :
    wL_lawOf_18 post mc ms x0 x1 x2 x3 x4 x5 kc ks 3 (fun _ => 0) (fun _ => 0) (fun _ => 0) a4 a5 a6 a7 a8 a9 :=
  br_c (fun _ => sl_54b hn H) (fun _ => br_c (fun _ => sl_54b hn H) (fun _ => br_f (by decide) (sl_54b hn H)))
theorem sl_49 {post : Int32 → St0 → Prop} {mc ms kc ks V : Nat} {x1 x2 x3 x4 x5 : Int32} {a4 a5 a6 a7 a8 a9 : Nat → Int32} (hV : V < 4) (hn : ∀ P, P < 16 → P.testBit V = false → ¬ x1 = nI P) (H : post 1 ()) :
    wL_lawOf_49 post mc ms (nI V) x1 x2 x3 x4 x5 0 kc ks 3 (fun _ => 0) (fun _ => 0) (fun _ => 0) a4 a5 a6 a7 a8 a9 :=
  br_c (fun _ => br_t rfl (br_f (by decide) (sl_107p hV hn H))) (fun _ => br_c (fun _ => br_t rfl (br_f (by decide) (sl_107p hV hn H))) (fun _ => br_t rfl (br_f (by decide) (sl_107p hV hn H))))
theorem sl_53 {post : Int32 → St0 → Prop} {mc ms kc ks V P : Nat} {x2 x3 x4 x5 : Int32} {a4 a5 a6 a7 a8 a9 : Nat → Int32} (hV : V < 4) (hP : P < 16) (hVP : P.testBit V = false) (H : post 1 ()) :
    wL_lawOf_53 post mc ms (nI V) (nI P) x2 x3 x4 x5 0 kc ks 3 (fun _ => 0) (fun _ => 0) (fun _ => 0) a4 a5 a6 a7 a8 a9 :=
  br_c (fun l => br_t rfl (br_t rfl (br_f (by decide) (sl_107s hV hP hVP (Or.inl l) H)))) (fun l => br_c (fun u => br_t rfl (br_t rfl (br_t rfl (sl_107y hV hP hVP l u H)))) (fun u => br_t rfl (br_t rfl (br_f (by decide) (sl_107s hV hP hVP (Or.inr u) H)))))
theorem sl_23 {post : Int32 → St0 → Prop} {mc ms kc ks V : Nat} {x1 x2 x3 x4 x5 : Int32} {a4 a5 a6 a7 a8 a9 : Nat → Int32} (hV : V < 4) (H : post 1 ()) :
    wL_lawOf_23 post mc ms (nI V) x1 x2 x3 x4 x5 0 kc ks 3 (fun _ => 0) (fun _ => 0) (fun _ => 0) a4 a5 a6 a7 a8 a9 := by
  unfold wL_lawOf_23
  refine br_c (fun z => sl_49 hV (fun P hP _ e => nI_pos (n := P) (by omega) (e ▸ z)) H) (fun z => br_c (fun w => sl_49 hV (fun P hP _ e => nI_nlt (a := 15) (b := P) (by omega) (by omega) (by rw [← e]; exact w)) H) (fun w => br_t rfl ?_))
  obtain ⟨P, hP, rfl⟩ := sl_in (n := 16) (by omega) z (Int32.lt_of_le_of_lt (Int32.not_lt.mp w) (by decide))
  refine br_c (fun b => sl_49 hV (fun P' hP' hb e => ?_) H) (fun b => sl_53 hV hP (Bool.eq_false_iff.mpr (fun t => b ((sl_bitT P hP V hV).mpr t))) H)
  have e' : P = P' := (nI_eq (by omega) (by omega)).mp e
  rw [(sl_bitT P hP V hV)] at b
  rw [e', hb] at b
  exact absurd b (by decide)
theorem sl_lawOf {post : Int32 → St0 → Prop} {x0 x1 x2 x3 x4 x5 : Int32} (H : post 1 ()) : wpL_lawOf post 20 300 () x0 x1 x2 x3 x4 x5 := by
  unfold wpL_lawOf
  refine ⟨by omega, by omega, 9, 180, by omega, by omega, ?_⟩
  unfold wpX_init
  refine ⟨by omega, by omega, by omega, by omega, by omega, by omega, by omega, by omega, by omega, by omega, by omega, by omega, by omega, by omega, by omega, by omega, by omega, by omega, ?_⟩
  refine sl_nd (fun b4 b5 b6 _ _ _ => br_c (fun z => sl_18 (fun j hj e => nI_pos (n := j) (by omega) (e ▸ z)) H) (fun z => br_c (fun w => ?_) (fun w => sl_18 (fun j hj e => w (by rw [e]; exact nI_le (b := 3) (by omega) (by omega))) H)))
  obtain ⟨V, hV, rfl⟩ := sl_in (n := 4) (by omega) z (Int32.lt_of_le_of_lt w (by decide))
  exact sl_23 hV H
end
section
theorem sl_cell {post : Int32 → Prop} {L : Nat} {xs : Nat → Int32} (hL : L ≤ 6) {i : Nat} (hi : i < 6) (H : ∀ r, post r) : wpL_cellAt post L xs () (nI i) :=
  br_c (fun _ => H _) (fun z => ⟨pk_in i L (by
    rcases Nat.lt_or_ge i L with h | h
    · exact h
    · exact absurd (nI_le h (by omega)) z), H _⟩)
theorem i_vc (xs : Nat → Int32) (L : Nat) (hL : L ≤ 6) : wpL_law (fun r => r = 1) L xs := by
  unfold wpL_law
  exact sl_cell (i := 0) hL (by omega) (fun _ => sl_cell (i := 1) hL (by omega) (fun _ => sl_cell (i := 2) hL (by omega) (fun _ => sl_cell (i := 3) hL (by omega) (fun _ => sl_cell (i := 4) hL (by omega) (fun _ => sl_cell (i := 5) hL (by omega) (fun _ => ⟨20, 300, by omega, by omega, sl_lawOf rfl⟩))))))
end
