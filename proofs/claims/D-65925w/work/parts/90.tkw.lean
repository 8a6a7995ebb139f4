set_option maxRecDepth 100000
def kwL : Nat → Int32 → Int64 → Int32 → Int32 → (Nat → Int64) → Option (Int32 × (Nat → Int64))
  | 0, _, _, _, _, _ => none
  | f + 1, n, v, cut, k, row =>
    if nI (tslen 4) ≤ k then some (n, row)
    else if inb k (tslen 4) then
      if tsch 4 (ix k) = 32 then
        if inb n 48 then kwL f (n + 1) 0 0 (k + 1) (fun i => if i = ix n then (if cut = 0 then v else -1) else row i) else none
      else kwL f n ((v <<< ((8 : Int32).toInt64 &&& 63)) ||| (tsch 4 (ix k)).toInt64) (if cut = 0 then (if lg_cmp ((v.toUInt64 >>> ((56 : Int32).toInt64.toUInt64 &&& Int64.toUInt64 63)).toInt64) 0 = 0 then 0 else 1) else 1) (k + 1) row
    else none
