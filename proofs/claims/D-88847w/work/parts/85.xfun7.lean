/-! THE COMPONENT's READER: functions -/
/-- the next sign at a place -/
def xq_nx (X : mm_S) (p : Int32) : Int32 := if fd_ X 22 ≤ p then -1 else rd_ X 21 p
def xq_take (X : mm_S) (c : Int32) : Int32 × mm_S := if xq_nx X (fd_ X 95) = c then (1, fw_ X 95 (fd_ X 95 + 1)) else (0, X)
