/-! compares of numbers that are Nats; a call through the interface that leaves the heap as it is -/
theorem nl (n : Nat) : Int32.ofNat n = nI n := rfl
theorem nle {x y : Int32} {a b : Nat} (h1 : x = nI a) (h2 : y = nI b) (ha : a < 2147483648) (hb : b < 2147483648) : x ≤ y ↔ a ≤ b := by rw [h1, h2]; exact nI_leI ha hb
theorem nlt {x y : Int32} {a b : Nat} (h1 : x = nI a) (h2 : y = nI b) (ha : a < 2147483648) (hb : b < 2147483648) : x < y ↔ a < b := by rw [h1, h2]; exact nI_ltI ha hb
theorem neq {x y : Int32} {a b : Nat} (h1 : x = nI a) (h2 : y = nI b) (ha : a < 2147483648) (hb : b < 2147483648) : x = y ↔ a = b := by rw [h1, h2]; exact nI_eq ha hb
section SR5
variable {p : Program} {l : Launch} {e : Env} {R : Room} {s : State} {m : MethodId} {args : Array Value} {below : List Frame} {meth : Method} {c : Code} {H : Heap} {locs : List Loc} {cells slots : Nat} {Q : State → Prop}
variable {pc : Nat} {ls : Array Slot} {rest st0 : List Value} {a : Array Value} {A1 : Nat → Prop} {mc ms : Nat}
theorem k5Ip {post : Int32 → Prop} {free : Addr → Prop} (hr : va_Run5 p l e R s m args below meth c H locs cells slots mc ms (F0 m pc ls st0) rest (QI (fun r H1 => H1 = H ∧ post r) A1 a) free)
    (kk : ∀ (r : Int32), post r → W p l e R s m args below meth c H locs cells slots Q (F0 m (pc + 5) ls (.int r :: rest))) : W p l e R s m args below meth c H locs cells slots Q (F0 m pc ls st0) := by
  intro T hT X
  obtain ⟨v, st₀, t, T', L, h0, X', hL, e1, e2, ⟨⟨r, hv, hh, hp⟩, hF⟩, st⟩ := hr T hT X
  cases hv
  have hT' : T'.heap = H := e1.trans hh
  obtain ⟨t2, a1, b1⟩ := kk r hp T' hT' (st_same X X' (hT'.trans hT.symm))
  exact ⟨t2, st t2 a1, b1⟩
end SR5
/-! Recent: an element more -/
def addK (n k : Nat) : Nat := if k = n then n else k + 1
def addF (n k : Nat) (f : Nat → Option Nat) (x : Nat) : Nat → Option Nat := fun j => if k = n then (if j + 1 = n then some x else f (j + 1)) else (if j = k then some x else f j)
theorem addF_full {n k x : Nat} {f : Nat → Option Nat} (h : k = n) (h1 : 1 ≤ k) (j : Nat) (hj : j < n) : va_up (va_cpy f f 1 0 (k - 1)) (k - 1) (some x) j = addF n k f x j := by
  unfold va_up addF va_cpy
  rw [if_pos h]
  by_cases h2 : j = k - 1
  · rw [if_pos h2, if_pos (by omega)]
  · rw [if_neg h2, if_pos (by omega), if_neg (by omega)]
    congr 1
    omega
theorem addF_free {n k x : Nat} {f : Nat → Option Nat} (h : ¬ k = n) (j : Nat) : va_up f k (some x) j = addF n k f x j := by
  unfold va_up addF
  rw [if_neg h]
def cpyF (k : Nat) (o f : Nat → Option Nat) : Nat → Option Nat := fun j => if j < k then o j else f j
theorem cpyF_eq {k : Nat} {o f : Nat → Option Nat} (j : Nat) : va_cpy o f 0 0 k j = cpyF k o f j := by
  unfold va_cpy cpyF
  by_cases h : j < k
  · rw [if_pos ⟨Nat.zero_le _, by omega⟩, if_pos h]; congr 1; omega
  · rw [if_neg (by omega), if_neg h]
