section
/-- 1: the int is a byte -/
def bs_ci (x : Int32) : Int32 := if x < 0 then 0 else if 255 < x then 0 else 1
/-- 1: the int names a variable -/
def bs_vi (x : Int32) : Int32 := if x < 0 then 0 else if 5 < x then 0 else 1
def bs_one (x11 : Int32) : Int32 := if x11 = 0 then 0 else 1
def bs_made (x2 x11 x13 : Int32) : Int32 := if x11 = 0 then 0 else if x13 = 0 then 0 else if 40 < x2 then 0 else 1
def bs_top (x2 x12 x14 x15 : Int32) : Int32 := if x15 = 0 then (if x12 = 0 then x14 else -1) else x2
def bs_kept (x2 x3 x16 : Int32) : Int32 := if 0 ≤ x16 - (x3 - 1) then (if x2 ≤ x16 - (x3 - 1) then x2 else x16 - (x3 - 1)) else 0
def bs_cuts (x3 x13 : Int32) : Int32 := if x3 < 1 then 0 else if 255 < x3 then 0 else if x13 = 0 then 0 else 1
def bs_many (x2 x11 x13 : Int32) : Int32 := if x11 = 0 then -1 else if x13 = 0 then -1 else if x2 ≤ 40 then x2 else -5
def bs_cutV (x16 x18 x19 : Int32) : Int32 := if x19 = 0 then -1 else if 0 ≤ x16 then x18 else -3
def bs_addV (x16 x18 x19 : Int32) : Int32 := if 0 ≤ x16 then (if x19 = 0 then x16 else x18) else 0
def bs_base (x12 x14 x15 : Int32) : Int32 := if x15 = 0 then (if x12 = 0 then 0 else x14) else x14
theorem bs_t360 {post : Int32 → St0 → Prop} {mc ms : Nat} {z0 : Int32} {z1 : Int32} {z2 : Int32} {kc : Nat} {ks : Nat} (hp : post 1 ()) (h : z2 = z1 + z0) : wL_lawOf_360 post mc ms z0 z1 z2 kc ks := by
  unfold wL_lawOf_360
  exact br_t h hp
theorem bs_t339 {post : Int32 → St0 → Prop} {mc ms : Nat} {x16 : Int32} {x18 : Int32} {x19 : Int32} {z0 : Int32} {z1 : Int32} {kc : Nat} {ks : Nat} (hp : post 1 ()) (h : z1 = z0 + bs_addV x16 x18 x19) : wL_lawOf_339 post mc ms x16 x18 x19 z0 z1 kc ks := by
  unfold wL_lawOf_339
  unfold bs_addV at h
  refine ⟨fun a => ⟨fun b => ?_, fun b => ?_⟩, fun a => ?_⟩
  · rw [if_pos a, if_pos b] at h
    exact bs_t360 hp h
  · rw [if_pos a, if_neg b] at h
    exact bs_t360 hp h
  · rw [if_neg a] at h
    exact bs_t360 hp h
theorem bs_t313 {post : Int32 → St0 → Prop} {mc ms : Nat} {x10 : Int32} {x12 : Int32} {x14 : Int32} {x15 : Int32} {x16 : Int32} {x18 : Int32} {x19 : Int32} {z0 : Int32} {z1 : Int32} {kc : Nat} {ks : Nat} (hp : post 1 ()) (e : z1 = z0) (h : x10 = bs_base x12 x14 x15 + bs_addV x16 x18 x19) : wL_lawOf_313 post mc ms x10 x12 x14 x15 x16 x18 x19 z0 z1 kc ks := by
  unfold wL_lawOf_313
  unfold bs_base at h
  refine br_t e ⟨fun a => ⟨fun b => ?_, fun b => ?_⟩, fun a => ?_⟩
  · rw [if_pos a, if_pos b] at h
    exact bs_t339 hp h
  · rw [if_pos a, if_neg b] at h
    exact bs_t339 hp h
  · rw [if_neg a] at h
    exact bs_t339 hp h
theorem bs_t287 {post : Int32 → St0 → Prop} {mc ms : Nat} {x9 : Int32} {x10 : Int32} {x12 : Int32} {x14 : Int32} {x15 : Int32} {x16 : Int32} {x18 : Int32} {x19 : Int32} {z0 : Int32} {z1 : Int32} {kc : Nat} {ks : Nat} (hp : post 1 ()) (e : z1 = z0) (h9 : x9 = bs_cutV x16 x18 x19) (h10 : x10 = bs_base x12 x14 x15 + bs_addV x16 x18 x19) : wL_lawOf_287 post mc ms x9 x10 x12 x14 x15 x16 x18 x19 z0 z1 kc ks := by
  unfold wL_lawOf_287
  unfold bs_cutV at h9
  refine br_t e ⟨fun a => ?_, fun a => ⟨fun b => ?_, fun b => ?_⟩⟩
  · rw [if_pos a] at h9
    exact bs_t313 hp h9 h10
  · rw [if_neg a, if_pos b] at h9
    exact bs_t313 hp h9 h10
  · rw [if_neg a, if_neg b] at h9
    exact bs_t313 hp h9 h10
theorem bs_t256 {post : Int32 → St0 → Prop} {mc ms : Nat} {x2 : Int32} {x8 : Int32} {x9 : Int32} {x10 : Int32} {x11 : Int32} {x12 : Int32} {x13 : Int32} {x14 : Int32} {x15 : Int32} {x16 : Int32} {x18 : Int32} {x19 : Int32} {z0 : Int32} {z1 : Int32} {kc : Nat} {ks : Nat} (hp : post 1 ()) (e : z1 = z0) (h8 : x8 = bs_many x2 x11 x13) (h9 : x9 = bs_cutV x16 x18 x19) (h10 : x10 = bs_base x12 x14 x15 + bs_addV x16 x18 x19) : wL_lawOf_256 post mc ms x2 x8 x9 x10 x11 x12 x13 x14 x15 x16 x18 x19 z0 z1 kc ks := by
  unfold wL_lawOf_256
  unfold bs_many at h8
  refine br_t e ⟨fun a => ?_, fun a => ⟨fun b => ?_, fun b => ⟨fun d => ?_, fun d => ?_⟩⟩⟩
  · rw [if_pos a] at h8
    exact bs_t287 hp h8 h9 h10
  · rw [if_neg a, if_pos b] at h8
    exact bs_t287 hp h8 h9 h10
  · rw [if_neg a, if_neg b, if_pos d] at h8
    exact bs_t287 hp h8 h9 h10
  · rw [if_neg a, if_neg b, if_neg d] at h8
    exact bs_t287 hp h8 h9 h10
theorem bs_t233 {post : Int32 → St0 → Prop} {mc ms : Nat} {x2 : Int32} {x6 : Int32} {x7 : Int32} {x8 : Int32} {x9 : Int32} {x10 : Int32} {x11 : Int32} {x12 : Int32} {x13 : Int32} {x14 : Int32} {x15 : Int32} {x16 : Int32} {x18 : Int32} {x19 : Int32} {z0 : Int32} {z1 : Int32} {kc : Nat} {ks : Nat} (hp : post 1 ()) (e : z1 = z0) (h6 : x6 = x14) (h7 : x7 = if x12 = 0 then -1 else x14) (h8 : x8 = bs_many x2 x11 x13) (h9 : x9 = bs_cutV x16 x18 x19) (h10 : x10 = bs_base x12 x14 x15 + bs_addV x16 x18 x19) : wL_lawOf_233 post mc ms x2 x6 x7 x8 x9 x10 x11 x12 x13 x14 x15 x16 x18 x19 z0 z1 kc ks := by
  unfold wL_lawOf_233
  refine br_t e (br_t h6 ⟨fun a => ?_, fun a => ?_⟩)
  · rw [if_pos a] at h7
    exact bs_t256 hp h7 h8 h9 h10
  · rw [if_neg a] at h7
    exact bs_t256 hp h7 h8 h9 h10
theorem bs_t219 {post : Int32 → St0 → Prop} {mc ms : Nat} {x2 : Int32} {x5 : Int32} {x6 : Int32} {x7 : Int32} {x8 : Int32} {x9 : Int32} {x10 : Int32} {x11 : Int32} {x12 : Int32} {x13 : Int32} {x14 : Int32} {x15 : Int32} {x16 : Int32} {x18 : Int32} {z0 : Int32} {kc : Nat} {ks : Nat} (hp : post 1 ()) (h5 : x5 = if x11 = 0 then -1 else 1) (h6 : x6 = x14) (h7 : x7 = if x12 = 0 then -1 else x14) (h8 : x8 = bs_many x2 x11 x13) (h9 : x9 = bs_cutV x16 x18 z0) (h10 : x10 = bs_base x12 x14 x15 + bs_addV x16 x18 z0) : wL_lawOf_219 post mc ms x2 x5 x6 x7 x8 x9 x10 x11 x12 x13 x14 x15 x16 x18 z0 kc ks := by
  unfold wL_lawOf_219
  refine ⟨fun a => ?_, fun a => ?_⟩
  · rw [if_pos a] at h5
    exact bs_t233 hp h5 h6 h7 h8 h9 h10
  · rw [if_neg a] at h5
    exact bs_t233 hp h5 h6 h7 h8 h9 h10
theorem bs_t195 {post : Int32 → St0 → Prop} {mc ms : Nat} {x2 : Int32} {x3 : Int32} {x5 : Int32} {x6 : Int32} {x7 : Int32} {x8 : Int32} {x9 : Int32} {x10 : Int32} {x11 : Int32} {x12 : Int32} {x13 : Int32} {x14 : Int32} {x15 : Int32} {x16 : Int32} {z0 : Int32} {kc : Nat} {ks : Nat} (H : wL_lawOf_219 post mc ms x2 x5 x6 x7 x8 x9 x10 x11 x12 x13 x14 x15 x16 z0 (bs_cuts x3 x13) kc ks) : wL_lawOf_195 post mc ms x2 x3 x5 x6 x7 x8 x9 x10 x11 x12 x13 x14 x15 x16 z0 kc ks := by
  unfold wL_lawOf_195
  unfold bs_cuts at H
  refine ⟨fun a => ?_, fun a => ⟨fun b => ?_, fun b => ⟨fun d => ?_, fun d => ?_⟩⟩⟩
  · rw [if_pos a] at H
    exact H
  · rw [if_neg a, if_pos b] at H
    exact H
  · rw [if_neg a, if_neg b, if_pos d] at H
    exact H
  · rw [if_neg a, if_neg b, if_neg d] at H
    exact H
theorem bs_t164 {post : Int32 → St0 → Prop} {mc ms : Nat} {x2 : Int32} {x3 : Int32} {x5 : Int32} {x6 : Int32} {x7 : Int32} {x8 : Int32} {x9 : Int32} {x10 : Int32} {x11 : Int32} {x12 : Int32} {x13 : Int32} {x14 : Int32} {x15 : Int32} {z0 : Int32} {kc : Nat} {ks : Nat} (H : wL_lawOf_195 post mc ms x2 x3 x5 x6 x7 x8 x9 x10 x11 x12 x13 x14 x15 z0 (bs_kept x2 x3 z0) kc ks) : wL_lawOf_164 post mc ms x2 x3 x5 x6 x7 x8 x9 x10 x11 x12 x13 x14 x15 z0 kc ks := by
  unfold wL_lawOf_164
  unfold bs_kept at H
  refine nm_e ?_
  refine ⟨fun a => ⟨fun b => ?_, fun b => ?_⟩, fun a => ?_⟩
  · rw [if_pos a, if_pos b] at H
    exact H
  · rw [if_pos a, if_neg b] at H
    exact H
  · rw [if_neg a] at H
    exact H
theorem bs_t142 {post : Int32 → St0 → Prop} {mc ms : Nat} {x2 : Int32} {x3 : Int32} {x5 : Int32} {x6 : Int32} {x7 : Int32} {x8 : Int32} {x9 : Int32} {x10 : Int32} {x11 : Int32} {x12 : Int32} {x13 : Int32} {x14 : Int32} {z0 : Int32} {kc : Nat} {ks : Nat} (H : wL_lawOf_164 post mc ms x2 x3 x5 x6 x7 x8 x9 x10 x11 x12 x13 x14 z0 (bs_top x2 x12 x14 z0) kc ks) : wL_lawOf_142 post mc ms x2 x3 x5 x6 x7 x8 x9 x10 x11 x12 x13 x14 z0 kc ks := by
  unfold wL_lawOf_142
  unfold bs_top at H
  refine ⟨fun a => ⟨fun b => ?_, fun b => ?_⟩, fun a => ?_⟩
  · rw [if_pos a, if_pos b] at H
    exact H
  · rw [if_pos a, if_neg b] at H
    exact H
  · rw [if_neg a] at H
    exact H
theorem bs_t119 {post : Int32 → St0 → Prop} {mc ms : Nat} {x2 : Int32} {x3 : Int32} {x5 : Int32} {x6 : Int32} {x7 : Int32} {x8 : Int32} {x9 : Int32} {x10 : Int32} {x11 : Int32} {x12 : Int32} {x13 : Int32} {z0 : Int32} {kc : Nat} {ks : Nat} (H : wL_lawOf_142 post mc ms x2 x3 x5 x6 x7 x8 x9 x10 x11 x12 x13 z0 (bs_made x2 x11 x13) kc ks) : wL_lawOf_119 post mc ms x2 x3 x5 x6 x7 x8 x9 x10 x11 x12 x13 z0 kc ks := by
  unfold wL_lawOf_119
  unfold bs_made at H
  refine ⟨fun a => ?_, fun a => ⟨fun b => ?_, fun b => ⟨fun d => ?_, fun d => ?_⟩⟩⟩
  · rw [if_pos a] at H
    exact H
  · rw [if_neg a, if_pos b] at H
    exact H
  · rw [if_neg a, if_neg b, if_pos d] at H
    exact H
  · rw [if_neg a, if_neg b, if_neg d] at H
    exact H
theorem bs_t107 {post : Int32 → St0 → Prop} {mc ms : Nat} {x2 : Int32} {x3 : Int32} {x5 : Int32} {x6 : Int32} {x7 : Int32} {x8 : Int32} {x9 : Int32} {x10 : Int32} {x11 : Int32} {x12 : Int32} {z0 : Int32} {kc : Nat} {ks : Nat} (H : wL_lawOf_119 post mc ms x2 x3 x5 x6 x7 x8 x9 x10 x11 x12 z0 (bs_one x11) kc ks) : wL_lawOf_107 post mc ms x2 x3 x5 x6 x7 x8 x9 x10 x11 x12 z0 kc ks := by
  unfold wL_lawOf_107
  unfold bs_one at H
  refine ⟨fun a => ?_, fun a => ?_⟩
  · rw [if_pos a] at H
    exact H
  · rw [if_neg a] at H
    exact H
theorem bs_t89 {post : Int32 → St0 → Prop} {mc ms : Nat} {x2 : Int32} {x3 : Int32} {x5 : Int32} {x6 : Int32} {x7 : Int32} {x8 : Int32} {x9 : Int32} {x10 : Int32} {x11 : Int32} {z0 : Int32} {kc : Nat} {ks : Nat} (H : wL_lawOf_107 post mc ms x2 x3 x5 x6 x7 x8 x9 x10 x11 z0 (bs_ci x2) kc ks) : wL_lawOf_89 post mc ms x2 x3 x5 x6 x7 x8 x9 x10 x11 z0 kc ks := by
  unfold wL_lawOf_89
  unfold bs_ci at H
  refine ⟨fun a => ?_, fun a => ⟨fun b => ?_, fun b => ?_⟩⟩
  · rw [if_pos a] at H
    exact H
  · rw [if_neg a, if_pos b] at H
    exact H
  · rw [if_neg a, if_neg b] at H
    exact H
theorem bs_t73 {post : Int32 → St0 → Prop} {mc ms : Nat} {x1 : Int32} {x2 : Int32} {x3 : Int32} {x5 : Int32} {x6 : Int32} {x7 : Int32} {x8 : Int32} {x9 : Int32} {x10 : Int32} {z0 : Int32} {kc : Nat} {ks : Nat} (H : wL_lawOf_89 post mc ms x2 x3 x5 x6 x7 x8 x9 x10 z0 (bs_vi x1) kc ks) : wL_lawOf_73 post mc ms x1 x2 x3 x5 x6 x7 x8 x9 x10 z0 kc ks := by
  unfold wL_lawOf_73
  unfold bs_vi at H
  refine ⟨fun a => ?_, fun a => ⟨fun b => ?_, fun b => ?_⟩⟩
  · rw [if_pos a] at H
    exact H
  · rw [if_neg a, if_pos b] at H
    exact H
  · rw [if_neg a, if_neg b] at H
    exact H
theorem bs_one_ci (c : Int32) : bs_one (bs_ci c) = bs_ci c := by
  unfold bs_one
  split
  · rename_i h
    exact h.symm
  · rename_i h
    unfold bs_ci at h ⊢
    by_cases a : c < 0
    · rw [if_pos a] at h
      exact absurd rfl h
    · by_cases b : 255 < c
      · rw [if_neg a, if_pos b] at h
        exact absurd rfl h
      · rw [if_neg a, if_neg b]
/-- the law's tail: six answers as the law wants them -/
theorem bs_tail {post : Int32 → St0 → Prop} {mc ms kc ks : Nat} {c v n i r5 r6 r7 r8 r9 r10 T B : Int32} (hp : post 1 ())
    (h5 : r5 = if bs_ci c = 0 then -1 else 1) (h6 : r6 = bs_ci c) (h7 : r7 = if bs_vi v = 0 then -1 else bs_ci c)
    (h8 : r8 = bs_many n (bs_ci c) (bs_ci n))
    (hT : bs_top n (bs_vi v) (bs_ci c) (bs_made n (bs_ci c) (bs_ci n)) = T) (hB : bs_base (bs_vi v) (bs_ci c) (bs_made n (bs_ci c) (bs_ci n)) = B)
    (h9 : r9 = bs_cutV T (bs_kept n i T) (bs_cuts i (bs_ci n))) (h10 : r10 = B + bs_addV T (bs_kept n i T) (bs_cuts i (bs_ci n))) :
    (c < 0 → wL_lawOf_72 post mc ms v n i r5 r6 r7 r8 r9 r10 kc ks) ∧ (¬ c < 0 → ((255 < c → wL_lawOf_72 post mc ms v n i r5 r6 r7 r8 r9 r10 kc ks) ∧ (¬ 255 < c → wL_lawOf_73 post mc ms v n i r5 r6 r7 r8 r9 r10 1 kc ks))) := by
  have H : wL_lawOf_73 post mc ms v n i r5 r6 r7 r8 r9 r10 (bs_ci c) kc ks := by
    refine bs_t73 (bs_t89 (bs_t107 (bs_t119 (bs_t142 (bs_t164 (bs_t195 (bs_t219 hp h5 ?_ ?_ h8 ?_ ?_)))))))
    · rw [bs_one_ci]
      exact h6
    · rw [bs_one_ci]
      exact h7
    · rw [bs_one_ci, hT]
      exact h9
    · rw [bs_one_ci, hT, hB]
      exact h10
  unfold bs_ci at H
  refine ⟨fun a => ?_, fun a => ⟨fun b => ?_, fun b => ?_⟩⟩
  · rw [if_pos a] at H
    exact H
  · rw [if_neg a, if_pos b] at H
    exact H
  · rw [if_neg a, if_neg b] at H
    exact H
end
section
/-- a byte or not -/
theorem bs_cC (x : Int32) : (bs_ci x = 0 ∧ (x < 0 ∨ 255 < x)) ∨ (bs_ci x = 1 ∧ ∃ j : Nat, j ≤ 255 ∧ x = nI j) := by
  unfold bs_ci
  by_cases a : x < 0
  · rw [if_pos a]
    exact Or.inl ⟨rfl, Or.inl a⟩
  · by_cases b : 255 < x
    · rw [if_neg a, if_pos b]
      exact Or.inl ⟨rfl, Or.inr b⟩
    · rw [if_neg a, if_neg b]
      exact Or.inr ⟨rfl, nI_of2 (M := 255) (n := 255) (by decide) a (Int32.not_lt.mp b)⟩
/-- a variable or not -/
theorem bs_vC (x : Int32) : (bs_vi x = 0 ∧ (x < 0 ∨ 5 < x)) ∨ (bs_vi x = 1 ∧ ∃ j : Nat, j ≤ 5 ∧ x = nI j) := by
  unfold bs_vi
  by_cases a : x < 0
  · rw [if_pos a]
    exact Or.inl ⟨rfl, Or.inl a⟩
  · by_cases b : 5 < x
    · rw [if_neg a, if_pos b]
      exact Or.inl ⟨rfl, Or.inr b⟩
    · rw [if_neg a, if_neg b]
      exact Or.inr ⟨rfl, nI_of2 (M := 5) (n := 5) (by decide) a (Int32.not_lt.mp b)⟩
theorem bs_56 {x : Int32} (h : 5 < x) : ¬ x < 6 := by
  intro g
  rw [Int32.lt_iff_toInt_lt] at h g
  have e5 : (5 : Int32).toInt = 5 := by decide
  have e6 : (6 : Int32).toInt = 6 := by decide
  omega
theorem bs_d (p : Nat) : (6 + nI (p + 1)) - 1 = nI (6 + p) := by
  have e : (6 : Int32) + nI (p + 1) = nI (6 + p + 1) := nI_add 6 (p + 1)
  rw [e]
  exact nI_pred (6 + p)
theorem bs_sumU {f : Nat → Int32} {j : Nat} {x : Int32} : ∀ n, n ≤ j → bx_sum (upd f j x) n = bx_sum f n
  | 0, _ => rfl
  | n + 1, h => by
    show bx_sum (upd f j x) n + upd f j x n = bx_sum f n + f n
    rw [bs_sumU n (by omega), pk_un (by omega)]
section
variable {f0 f1 f2 : Int32} {a1 a2 a3 a4 a5 a6 : Nat → Int32}
theorem bs_bb0 {post : Int32 → Prop} {x : Int32} (h : x < 0 ∨ 255 < x) (hp : post 1) : wpX_badByte post (f0, f1, f2, a1, a2, a3, a4, a5, a6) x := by
  refine ⟨fun _ => hp, fun a => ⟨fun b => ?_, fun _ => hp⟩⟩
  rcases h with h | h
  · exact absurd h a
  · exact absurd b (Int32.not_le.mpr h)
theorem bs_bb1 {post : Int32 → Prop} {j : Nat} (hj : j ≤ 255) (hp : post 0) : wpX_badByte post (f0, f1, f2, a1, a2, a3, a4, a5, a6) (nI j) :=
  br_f (nI_pos (by omega)) (br_t (nI_le (b := 255) hj (by decide)) hp)
theorem bs_key (c : Int32) {post : Int32 → St2 → Prop}
    (H : ∀ (k : Nat) (a : Nat → Int32), k ≤ 1 → bs_ci c = nI k → post (if bs_ci c = 0 then -1 else 1) (nI k, f1, f2, a, a2, a3, a4, a5, a6)) :
    wpX_key post (0, f1, f2, a1, a2, a3, a4, a5, a6) c := by
  rcases bs_cC c with ⟨e, h⟩ | ⟨e, j, hj, h⟩
  · have H0 := H 0 a1 (by omega) e
    rw [if_pos e] at H0
    unfold wpX_key
    refine bs_bb0 h ?_
    exact br_f (by decide) H0
  · have H1 := fun a => H 1 a (by omega) e
    rw [if_neg (by rw [e]; decide)] at H1
    subst h
    unfold wpX_key
    refine bs_bb1 hj ?_
    exact br_t rfl (br_f (by decide) ⟨pk_in 0 40 (by omega), nm_e (nm_r (e' := 1) rfl (H1 _))⟩)
theorem bs_used {post : Int32 → Prop} {p : Nat} (hp : p ≤ 4) (h : post (bx_sum a2 (6 + p))) : wpX_used post (f0, nI p, f2, a1, a2, a3, a4, a5, a6) :=
  pk_loop (σ := Unit) (fun n i _ => wX_used_4 post f0 (nI p) f2 a1 a2 a3 a4 a5 a6 n (bx_sum a2 i) (nI i)) (fun _ _ => True) (6 + p) 0 () (by omega) trivial
    (fun n _ _ => pk_le (6 + p) (6 + p) (fun _ => h) (fun z => absurd z (by omega)) (nI_add 6 p))
    (fun n i _ hi _ hw => pk_le (6 + p) i (fun z => absurd z (by omega)) (fun _ => ⟨pk_in i 10 (by omega), nm_r (e' := bx_sum a2 (i + 1)) (by rw [nI_clamp (by omega)]; rfl) (nm_r (nI_1 i) (hw () trivial))⟩) (nI_add 6 p))
theorem bs_ref0 {post : Int32 → Prop} {p q t : Nat} (hp : p ≤ 3) (hq : q ≤ 40) (hs : bx_sum a2 (6 + p) = nI t) (ht : t + q ≤ 100) (h : post 0) :
    wpX_refuse post (f0, nI p, f2, a1, a2, a3, a4, a5, a6) (nI q) :=
  pk_eq p 4 (fun z => absurd z (by omega)) (fun _ => pk_le q 40 (fun _ => bs_used (by omega) (pk_le (t + q) 100 (fun _ => h) (fun z => absurd z (by omega)) (by rw [hs]; exact nI_add t q))) (fun z => absurd z (by omega)))
theorem bs_ref5 {post : Int32 → Prop} {p q : Nat} (hp : p ≤ 3) (hq : 40 < q) (hq2 : q ≤ 255) (h : post (-5)) :
    wpX_refuse post (f0, nI p, f2, a1, a2, a3, a4, a5, a6) (nI q) :=
  pk_eq p 4 (fun z => absurd z (by omega)) (fun _ => pk_le q 40 (fun z => absurd z (by omega)) (fun _ => h))
theorem bs_take {post : Int32 → St2 → Prop} {b q : Nat} (hq : q ≤ b) (hb : b ≤ 144) (h : post (nI (b - q)) (f0, f1, nI (b - q), a1, a2, a3, a4, a5, a6)) :
    wpX_take post (f0, f1, nI b, a1, a2, a3, a4, a5, a6) (nI q) :=
  pk_le q b (fun _ => nm_r (pk_sub hq) h) (fun z => absurd z (by omega))
theorem bs_push {post : St2 → Prop} {p : Nat} (hp : p ≤ 3) (x y : Int32) (h : ∀ a, post (f0, nI (p + 1), f2, a1, upd a2 (6 + p) y, a, a4, a5, a6)) :
    wpX_pushBody post (f0, nI p, f2, a1, a2, a3, a4, a5, a6) x y := by
  have e := bs_d p
  have ec : ((6 + nI (p + 1)) - 1).toNatClampNeg = 6 + p := pk_cl (6 + p) e
  have g : vp_in ((6 + nI (p + 1)) - 1) 10 := pk_in (6 + p) 10 (by omega) e
  exact nm_r (nI_1 p) (br_c (fun _ => ⟨g, nm_e ⟨g, nm_r (congrArg (fun k => upd a2 k y) ec) (h _)⟩⟩) (fun _ => ⟨g, nm_e ⟨g, nm_r (congrArg (fun k => upd a2 k y) ec) (h _)⟩⟩))
theorem bs_lit26 {post : Int32 → St2 → Prop} {p k w : Nat} (hp : p ≤ 3) (hk : k ≤ 40) (hw : w + k ≤ 144)
    (h : ∀ a b, post (nI k) (nI k, nI (p + 1), f2, a1, upd a2 (6 + p) (nI k), a, b, a5, a6)) :
    ∃ n, wX_literal_26 post (nI w) (nI k) (nI p) f2 n 0 a1 a2 a3 a4 a5 a6 :=
  pk_loop (fun n i s => wX_literal_26 post (nI w) (nI k) (nI p) f2 n (nI i) a1 a2 a3 s a5 a6) (fun _ _ => True) k 0 a4 (by omega) trivial
    (fun n s _ => pk_le k k (fun _ => bs_push hp _ _ (fun a => h a s)) (fun z => absurd z (by omega)))
    (fun n i s hi _ hs => pk_le k i (fun z => absurd z (by omega)) (fun _ => ⟨pk_in i 40 (by omega), pk_in (w + i) 144 (by omega) (nI_add w i), nm_e (nm_r (nI_1 i) (hs _ trivial))⟩))
theorem bs_literal {post : Int32 → St2 → Prop} {p k b t : Nat} (hp : p ≤ 3) (hk : k ≤ 40) (hs : bx_sum a2 (6 + p) = nI t) (ht : t + k ≤ 100) (hb : k ≤ b) (hb2 : b ≤ 144)
    (h : ∀ x y, post (nI k) (nI k, nI (p + 1), nI (b - k), a1, upd a2 (6 + p) (nI k), x, y, a5, a6)) :
    wpX_literal post (nI k, nI p, nI b, a1, a2, a3, a4, a5, a6) := by
  unfold wpX_literal
  refine bs_ref0 hp hk hs ht ?_
  refine br_t (by decide) ?_
  refine bs_take hb hb2 ?_
  exact bs_lit26 hp hk (by omega) h
theorem bs_let0 {post : Int32 → St2 → Prop} {v : Int32} (h : v < 0 ∨ 5 < v) (hp : post (-1) (f0, f1, f2, a1, a2, a3, a4, a5, a6)) :
    wpX_let post (f0, f1, f2, a1, a2, a3, a4, a5, a6) v := by
  refine ⟨fun _ => br_f (by decide) hp, fun a => ⟨fun b => ?_, fun _ => br_f (by decide) hp⟩⟩
  rcases h with h | h
  · exact absurd h a
  · exact absurd b (bs_56 h)
theorem bs_let1 {post : Int32 → St2 → Prop} {w p : Nat} (hw : w ≤ 5) (hp : p ≤ 3) (h : ∀ x, post (a2 (6 + p)) (f0, nI p, f2, a1, upd a2 w (a2 (6 + p)), x, a4, a5, a6)) :
    wpX_let post (f0, nI (p + 1), f2, a1, a2, a3, a4, a5, a6) (nI w) := by
  have e := bs_d p
  have ec : ((6 + nI (p + 1)) - 1).toNatClampNeg = 6 + p := pk_cl (6 + p) e
  have g : vp_in ((6 + nI (p + 1)) - 1) 10 := pk_in (6 + p) 10 (by omega) e
  have gw : vp_in (nI w) 10 := pk_in w 10 (by omega)
  have cw : (nI w).toNatClampNeg = w := nI_clamp (by omega)
  refine br_f (nI_pos (by omega)) (br_t (nI_lt (b := 6) (by omega) (by decide)) (br_t rfl (br_f (nI_ne0 (by omega) (by omega)) ⟨g, gw, nm_e ⟨g, gw, nm_r (e' := upd a2 w (a2 (6 + p))) (by rw [cw, ec]) (nm_r (nI_pred p) ⟨gw, ?_⟩)⟩⟩)))
  rw [cw, pk_us]
  exact h _
theorem bs_rep40 {post : Int32 → St2 → Prop} {p m w : Nat} {c : Int32} (hp : p ≤ 3) (hm : m ≤ 255) (hw : w + m ≤ 144)
    (h : ∀ a b, post (nI m) (f0, nI (p + 1), f2, a1, upd a2 (6 + p) (nI m), a, b, a5, a6)) :
    ∃ n, wX_repeat_40 post (nI m) c (nI w) f0 (nI p) f2 n 0 a1 a2 a3 a4 a5 a6 :=
  pk_loop (fun n i s => wX_repeat_40 post (nI m) c (nI w) f0 (nI p) f2 n (nI i) a1 a2 a3 s a5 a6) (fun _ _ => True) m 0 a4 (by omega) trivial
    (fun n s _ => pk_le m m (fun _ => bs_push hp _ _ (fun a => h a s)) (fun z => absurd z (by omega)))
    (fun n i s hi _ hs => pk_le m i (fun z => absurd z (by omega)) (fun _ => ⟨pk_in (w + i) 144 (by omega) (nI_add w i), nm_e (nm_r (nI_1 i) (hs _ trivial))⟩))
theorem bs_rep {post : Int32 → St2 → Prop} (n c : Int32) {p b t : Nat} (hp : p ≤ 3) (hs : bx_sum a2 (6 + p) = nI t) (ht : t ≤ 60) (hb : 40 ≤ b) (hb2 : b ≤ 144)
    (H0 : bs_made n (bs_ci c) (bs_ci n) = 0 → post (bs_many n (bs_ci c) (bs_ci n)) (f0, nI p, nI b, a1, a2, a3, a4, a5, a6))
    (H1 : ∀ (m : Nat) (x y : Nat → Int32), m ≤ 40 → n = nI m → bs_made n (bs_ci c) (bs_ci n) = 1 → post (bs_many n (bs_ci c) (bs_ci n)) (f0, nI (p + 1), nI (b - m), a1, upd a2 (6 + p) (nI m), x, y, a5, a6)) :
    wpX_repeat post (f0, nI p, nI b, a1, a2, a3, a4, a5, a6) n c := by
  have ne1 : ∀ x : Int32, x = 1 → ¬ x = 0 := fun x e g => absurd (e.symm.trans g) (by decide)
  rcases bs_cC n with ⟨en, hn⟩ | ⟨en, m, hm, hn⟩
  · unfold wpX_repeat
    refine bs_bb0 hn ?_
    refine br_f (by decide) ?_
    have E1 : bs_made n (bs_ci c) (bs_ci n) = 0 := by
      unfold bs_made
      rw [if_pos en]
      split <;> rfl
    have E2 : bs_many n (bs_ci c) (bs_ci n) = -1 := by
      unfold bs_many
      rw [if_pos en]
      split <;> rfl
    have H := H0 E1
    rw [E2] at H
    exact H
  · subst hn
    unfold wpX_repeat
    refine bs_bb1 hm ?_
    refine br_t rfl ?_
    rcases bs_cC c with ⟨ec, hc⟩ | ⟨ec, j, hj, hc⟩
    · have H := H0 (if_pos ec)
      rw [show bs_many (nI m) (bs_ci c) (bs_ci (nI m)) = -1 from if_pos ec] at H
      refine bs_bb0 hc ?_
      exact br_f (by decide) H
    · subst hc
      refine bs_bb1 hj ?_
      refine br_t rfl ?_
      have ec' := ne1 _ ec
      have en' := ne1 _ en
      by_cases z : m ≤ 40
      · have l1 : ¬ (40 : Int32) < nI m := nI_nlt (a := 40) z (by decide)
        have l2 : nI m ≤ (40 : Int32) := nI_le (b := 40) z (by decide)
        have E1 : bs_made (nI m) (bs_ci (nI j)) (bs_ci (nI m)) = 1 := by
          unfold bs_made
          rw [if_neg ec', if_neg en', if_neg l1]
        have E2 : bs_many (nI m) (bs_ci (nI j)) (bs_ci (nI m)) = nI m := by
          unfold bs_many
          rw [if_neg ec', if_neg en', if_pos l2]
        rw [E2] at H1
        refine bs_ref0 hp z hs (by omega) ?_
        refine br_t (by decide) ?_
        refine bs_take (by omega) hb2 ?_
        exact bs_rep40 hp hm (by omega) (fun x y => H1 m x y z rfl E1)
      · have l1 : (40 : Int32) < nI m := nI_lt (a := 40) (by omega) (by omega)
        have l2 : ¬ nI m ≤ (40 : Int32) := nI_ge (a := 40) (by omega) (by omega)
        have E1 : bs_made (nI m) (bs_ci (nI j)) (bs_ci (nI m)) = 0 := by
          unfold bs_made
          rw [if_neg ec', if_neg en', if_pos l1]
        have E2 : bs_many (nI m) (bs_ci (nI j)) (bs_ci (nI m)) = -5 := by
          unfold bs_many
          rw [if_neg ec', if_neg en', if_neg l2]
        have H := H0 E1
        rw [E2] at H
        refine bs_ref5 hp (by omega) hm ?_
        exact br_f (by decide) H
theorem bs_c75 {post : Int32 → St2 → Prop} {x3 x6 z0 : Int32} {d : Nat} (e : x3 = nI d) (hd : d < 10) (h : ∀ a, post x6 (f0, f1, f2, a1, upd a2 d x6, a, a4, a5, a6)) :
    wX_cut_75 post x3 x6 z0 x3 f0 f1 f2 a1 a2 a3 a4 a5 a6 :=
  ⟨pk_in d 10 hd e, nm_e ⟨pk_in d 10 hd e, nm_r (congrArg (fun k => upd a2 k x6) (pk_cl d e)) (h _)⟩⟩
theorem bs_c50 {post : Int32 → St2 → Prop} {x3 x4 z0 : Int32} {d : Nat} (e : x3 = nI d) (hd : d < 10) (h : ∀ a, post z0 (f0, f1, f2, a1, upd a2 d z0, a, a4, a5, a6)) :
    wX_cut_50 post x3 x4 z0 f0 f1 f2 a1 a2 a3 a4 a5 a6 :=
  br_c (fun _ => bs_c75 e hd h) (fun _ => ⟨pk_in d 10 hd e, bs_c75 e hd h⟩)
theorem bs_c25 {post : Int32 → St2 → Prop} {x3 z0 : Int32} {d t g m : Nat} (e : x3 = nI d) (hd : d < 10) (ht : t ≤ 255) (ha : a2 d = nI t) (hg : g ≤ t) (hz : z0 = nI g) (hm : m ≤ 255)
    (h : ∀ a, post (nI (min m (t - g))) (f0, f1, f2, a1, upd a2 d (nI (min m (t - g))), a, a4, a5, a6)) :
    wX_cut_25 post (nI m) x3 z0 f0 f1 f2 a1 a2 a3 a4 a5 a6 := by
  refine ⟨pk_in d 10 hd e, nm_r (e' := nI (t - g)) (by rw [pk_cl d e, ha, hz]; exact pk_sub hg) (pk_le (t - g) m (fun z => ?_) (fun z => ?_))⟩
  · rw [Nat.min_eq_right z] at h
    exact bs_c50 e hd h
  · rw [Nat.min_eq_left (by omega)] at h
    exact bs_c50 e hd h
theorem bs_cut {post : Int32 → St2 → Prop} {x0 : Int32} {p t q m : Nat} (hx : x0 = nI q) (hp : p ≤ 3) (ha : a2 (6 + p) = nI t) (ht : t ≤ 255) (hq : q ≤ 255) (hm : m ≤ 255)
    (h : ∀ a, post (nI (min m (t - q))) (f0, nI (p + 1), f2, a1, upd a2 (6 + p) (nI (min m (t - q))), a, a4, a5, a6)) :
    wpX_cut post (f0, nI (p + 1), f2, a1, a2, a3, a4, a5, a6) x0 (nI m) := by
  have e := bs_d p
  have ec : ((6 + nI (p + 1)) - 1).toNatClampNeg = 6 + p := pk_cl (6 + p) e
  have ea : a2 ((6 + nI (p + 1)) - 1).toNatClampNeg = nI t := by rw [ec, ha]
  have g : vp_in ((6 + nI (p + 1)) - 1) 10 := pk_in (6 + p) 10 (by omega) e
  refine ⟨g, pk_le q t (fun z => ?_) (fun z => ⟨g, ?_⟩) hx ea⟩
  · exact bs_c25 e (by omega) ht ha z hx hm h
  · rw [show t - q = t - t by omega] at h
    exact bs_c25 e (by omega) ht ha (Nat.le_refl t) ea hm h
end
end
section
theorem bs_kC (x : Int32) : (x < 1 ∨ 255 < x) ∨ ∃ q : Nat, q ≤ 254 ∧ x = nI (q + 1) := by
  by_cases a : x < 1
  · exact Or.inl (Or.inl a)
  · by_cases b : 255 < x
    · exact Or.inl (Or.inr b)
    · have a0 : ¬ x < 0 := by
        intro g
        apply a
        rw [Int32.lt_iff_toInt_lt] at g ⊢
        have e0 : (0 : Int32).toInt = 0 := by decide
        have e1 : (1 : Int32).toInt = 1 := by decide
        omega
      obtain ⟨j, hj, e⟩ := nI_of2 (M := 255) (n := 255) (by decide) a0 (Int32.not_lt.mp b)
      subst e
      refine Or.inr ⟨j - 1, by omega, ?_⟩
      have h0 : j ≠ 0 := by
        intro z
        subst z
        exact a (by decide)
      rw [show j - 1 + 1 = j by omega]
theorem bs_keptN {m q t : Nat} (hm : m ≤ 255) (hq : q ≤ 254) (ht : t ≤ 255) : bs_kept (nI m) (nI (q + 1)) (nI t) = nI (min m (t - q)) := by
  unfold bs_kept
  rw [nI_pred]
  by_cases z : q ≤ t
  · rw [pk_sub z, if_pos (nI_pos' (by omega))]
    by_cases y : m ≤ t - q
    · rw [if_pos (nI_le y (by omega)), Nat.min_eq_left y]
    · rw [if_neg (nI_ge (by omega) (by omega)), Nat.min_eq_right (by omega)]
  · rw [if_neg (Int32.not_le.mpr (pk_sneg (by omega) (by omega))), show min m (t - q) = 0 by omega, nI_0]
section
variable {f0 f1 f2 : Int32} {a1 a2 a3 a4 a5 a6 : Nat → Int32}
theorem bs_midB {post : Int32 → St2 → Prop} {n i : Int32} (H : bs_cuts i (bs_ci n) = 0 → post (-1) (f0, f1, f2, a1, a2, a3, a4, a5, a6))
    (G : ∀ q m : Nat, q ≤ 254 → m ≤ 255 → i = nI (q + 1) → n = nI m → bs_cuts i (bs_ci n) = 1 →
      ((f1 = 0 → post (-3) (f0, f1, f2, a1, a2, a3, a4, a5, a6)) ∧ (¬ f1 = 0 → wpX_cut post (f0, f1, f2, a1, a2, a3, a4, a5, a6) (i - 1) n))) :
    wpX_mid post (f0, f1, f2, a1, a2, a3, a4, a5, a6) i n := by
  unfold bs_cuts at H G
  rcases bs_kC i with h | ⟨q, hq, hi⟩
  · have F : post (-1) (f0, f1, f2, a1, a2, a3, a4, a5, a6) := by
      apply H
      by_cases a : i < 1
      · rw [if_pos a]
      · rw [if_neg a, if_pos (h.resolve_left a)]
    refine ⟨fun _ => F, fun a => ⟨fun _ => F, fun b => ?_⟩⟩
    exact absurd (h.resolve_left a) b
  · subst hi
    have n1 : ¬ nI (q + 1) < 1 := nI_nlt (b := 1) (by omega) (by omega)
    have n2 : ¬ 255 < nI (q + 1) := nI_nlt (a := 255) (by omega) (by omega)
    rw [if_neg n1, if_neg n2] at H G
    refine br_f n1 (br_f n2 ?_)
    rcases bs_cC n with ⟨en, hn⟩ | ⟨en, m, hm, hn⟩
    · rw [if_pos en] at H
      exact bs_bb0 hn (br_f (by decide) (H rfl))
    · rw [if_neg (by rw [en]; decide)] at G
      have G' := G q m hq hm rfl hn rfl
      subst hn
      exact bs_bb1 hm (br_t rfl G')
theorem bs_mid {post : Int32 → St2 → Prop} (n i B : Int32) (p t : Nat) (hp : p ≤ 3) (ht : t ≤ 255) (ha : a2 (6 + p) = nI t) (hB : bx_sum a2 (6 + p) = B)
    (H : ∀ (r : Int32) (x y : Nat → Int32), r = bs_cutV (nI t) (bs_kept n i (nI t)) (bs_cuts i (bs_ci n)) → bx_sum x (6 + (p + 1)) = B + bs_addV (nI t) (bs_kept n i (nI t)) (bs_cuts i (bs_ci n)) →
      post r (f0, nI (p + 1), f2, a1, x, y, a4, a5, a6)) :
    wpX_mid post (f0, nI (p + 1), f2, a1, a2, a3, a4, a5, a6) i n := by
  have A : 0 ≤ nI t := nI_pos' (by omega)
  refine bs_midB (fun z => ?_) (fun q m hq hm hi hn z => ?_)
  · refine H (-1) a2 a3 ?_ ?_
    · unfold bs_cutV
      rw [if_pos z]
    · unfold bs_addV
      rw [if_pos A, if_pos z]
      show bx_sum a2 (6 + p) + a2 (6 + p) = B + nI t
      rw [hB, ha]
  · have zn : ¬ bs_cuts i (bs_ci n) = 0 := by
      rw [z]
      decide
    have ek : bs_kept n i (nI t) = nI (min m (t - q)) := by
      rw [hi, hn]
      exact bs_keptN hm hq ht
    subst hn
    refine br_f (nI_ne0 (by omega) (by omega)) (bs_cut (by rw [hi]; exact nI_pred q) hp ha ht (by omega) hm (fun y => H _ _ y ?_ ?_))
    · unfold bs_cutV
      rw [if_neg zn, if_pos A, ek]
    · unfold bs_addV
      rw [if_pos A, if_neg zn, ek]
      show bx_sum (upd a2 (6 + p) (nI (min m (t - q)))) (6 + p) + upd a2 (6 + p) (nI (min m (t - q))) (6 + p) = B + nI (min m (t - q))
      rw [bs_sumU (6 + p) (Nat.le_refl _), pk_us, hB]
theorem bs_mid0 {post : Int32 → St2 → Prop} (n i B : Int32) (hB : bx_sum a2 6 = B)
    (H : ∀ r : Int32, r = bs_cutV (-1) (bs_kept n i (-1)) (bs_cuts i (bs_ci n)) → bx_sum a2 (6 + 0) = B + bs_addV (-1) (bs_kept n i (-1)) (bs_cuts i (bs_ci n)) →
      post r (f0, nI 0, f2, a1, a2, a3, a4, a5, a6)) :
    wpX_mid post (f0, nI 0, f2, a1, a2, a3, a4, a5, a6) i n := by
  have A : ¬ (0 : Int32) ≤ -1 := by decide
  have S : bx_sum a2 (6 + 0) = B + bs_addV (-1) (bs_kept n i (-1)) (bs_cuts i (bs_ci n)) := by
    unfold bs_addV
    rw [if_neg A, Int32.add_zero]
    exact hB
  refine bs_midB (fun z => ?_) (fun q m hq hm hi hn z => ?_)
  · refine H (-1) ?_ S
    unfold bs_cutV
    rw [if_pos z]
  · refine br_t rfl (H (-3) ?_ S)
    unfold bs_cutV
    rw [if_neg (by rw [z]; decide), if_neg A]
end
def bs_z (k : Nat) : Nat → Int32 := upd (fun _ => 0) 6 (nI k)
theorem bs_z6 (k : Nat) : bx_sum (bs_z k) 6 = 0 := by
  unfold bs_z
  rw [bs_sumU 6 (Nat.le_refl 6)]
  decide
theorem bs_zk (k : Nat) : bs_z k 6 = nI k := pk_us
theorem bs_z7 (k : Nat) : bx_sum (bs_z k) 7 = nI k := by
  show bx_sum (bs_z k) 6 + bs_z k 6 = nI k
  rw [bs_z6, bs_zk, Int32.zero_add]
theorem bs_y6 {k w : Nat} (hk : k ≤ 1) (hw : w ≤ 5) : bx_sum (upd (bs_z k) w (nI k)) 6 = nI k := by
  have T : ∀ k, k < 2 → ∀ w, w < 6 → bx_sum (upd (bs_z k) w (nI k)) 6 = nI k := by decide +kernel
  exact T k (by omega) w (by omega)
theorem bs_lawOf (c v n i : Int32) : wpL_lawOf (fun r _ => r = 1) 210 3360 () c v n i := by
  refine ⟨by decide, by decide, 6, 492, by decide, by decide, ?_⟩
  refine ⟨by decide, by decide, by decide, by decide, by decide, by decide, by decide, by decide, by decide, by decide, by decide, by decide, ?_⟩
  refine bs_key c (fun k a hk ek => ?_)
  refine bs_literal (p := 0) (k := k) (b := 144) (t := 0) (by omega) (by omega) (by decide) (by omega) (by omega) (by omega) (fun x y => ?_)
  rcases bs_vC v with ⟨ev, hv⟩ | ⟨ev, w, hw, hv⟩
  · have h7 : (-1 : Int32) = if bs_vi v = 0 then -1 else bs_ci c := by rw [if_pos ev]
    refine bs_let0 hv ?_
    refine bs_rep n c (a2 := bs_z k) (p := 1) (b := 144 - k) (t := k) (by omega) (bs_z7 k) (by omega) (by omega) (by omega) (fun hm => ?_) (fun m x' y' hm en hd => ?_)
    · refine bs_mid n i 0 0 k (by omega) (by omega) (bs_zk k) (bs_z6 k) (fun r x y hr hs => ?_)
      refine bs_used (p := 1) (by omega) ?_
      exact bs_tail rfl rfl ek.symm h7 rfl (by unfold bs_top; rw [if_pos hm, if_pos ev, ek]) (by unfold bs_base; rw [if_pos hm, if_pos ev]) hr hs
    · refine bs_mid n i (nI k) 1 m (by omega) (by omega) pk_us ((bs_sumU 7 (Nat.le_refl 7)).trans (bs_z7 k)) (fun r x y hr hs => ?_)
      refine bs_used (p := 2) (by omega) ?_
      have hd' : ¬ bs_made n (bs_ci c) (bs_ci n) = 0 := by
        rw [hd]
        decide
      exact bs_tail rfl rfl ek.symm h7 rfl (by unfold bs_top; rw [if_neg hd']; exact en) (by unfold bs_base; rw [if_neg hd', ek]) hr hs
  · have ev' : ¬ bs_vi v = 0 := by
      rw [ev]
      decide
    have h7 : nI k = if bs_vi v = 0 then -1 else bs_ci c := by rw [if_neg ev', ek]
    subst hv
    refine bs_let1 (p := 0) hw (by omega) (fun x1 => ?_)
    have e0 : bx_sum (upd (bs_z k) w (nI k)) 6 = nI k := bs_y6 hk hw
    refine bs_rep n c (a2 := upd (bs_z k) w (nI k)) (p := 0) (b := 144 - k) (t := k) (by omega) e0 (by omega) (by omega) (by omega) (fun hm => ?_) (fun m x' y' hm en hd => ?_)
    · refine bs_mid0 n i (nI k) e0 (fun r hr hs => ?_)
      refine bs_used (p := 0) (by omega) ?_
      exact bs_tail rfl rfl ek.symm h7 rfl (by unfold bs_top; rw [if_pos hm, if_neg ev']) (by unfold bs_base; rw [if_pos hm, if_neg ev', ek]) hr hs
    · refine bs_mid n i (nI k) 0 m (by omega) (by omega) pk_us ((bs_sumU 6 (Nat.le_refl 6)).trans e0) (fun r x y hr hs => ?_)
      refine bs_used (p := 1) (by omega) ?_
      have hd' : ¬ bs_made n (bs_ci c) (bs_ci n) = 0 := by
        rw [hd]
        decide
      exact bs_tail rfl rfl ek.symm h7 rfl (by unfold bs_top; rw [if_neg hd']; exact en) (by unfold bs_base; rw [if_neg hd', ek]) hr hs
theorem bs_cell {post : Int32 → Prop} {L : Nat} {xs : Nat → Int32} {u : St0} (k : Nat) {x : Int32} (hk : k ≤ 3) (hL : L ≤ 4) (hx : x = nI k) (h : ∀ y, post y) : wpL_cellAt post L xs u x :=
  pk_le L k (fun _ => h 0) (fun z => ⟨pk_in k L z hx, h _⟩) rfl hx
theorem i_vc (xs : Nat → Int32) (L : Nat) (hL : L ≤ 4) : wpL_law (fun r => r = 1) L xs :=
  bs_cell 0 (by omega) hL rfl (fun r1 => bs_cell 1 (by omega) hL rfl (fun r2 => bs_cell 2 (by omega) hL rfl (fun r3 => bs_cell 3 (by omega) hL rfl (fun r4 => ⟨210, 3360, by decide, by decide, bs_lawOf r1 r2 r3 r4⟩))))
end
